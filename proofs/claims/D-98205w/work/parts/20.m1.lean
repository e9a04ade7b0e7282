/-- the town's numbers in the first slot -/
def mOK (a : Nat → Int32) (Wd R nr nc : Nat) : Prop := (a 0 = nI Wd ∧ 1 ≤ Wd ∧ Wd ≤ 5) ∧ (a 1 = nI R ∧ 1 ≤ R ∧ R ≤ 6) ∧ (a 5 = nI nr ∧ nr ≤ 4) ∧ (a 6 = nI nc ∧ nc ≤ 6) ∧ (a 10 = -1 ∨ (¬ a 10 < 0 ∧ (a 10).toNatClampNeg < nr))
theorem mOK_w {a : Nat → Int32} {Wd R nr nc : Nat} (h : mOK a Wd R nr nc) : a 0 = nI Wd := h.1.1
theorem mOK_r {a : Nat → Int32} {Wd R nr nc : Nat} (h : mOK a Wd R nr nc) : a 1 = nI R := h.2.1.1
theorem mOK_nr {a : Nat → Int32} {Wd R nr nc : Nat} (h : mOK a Wd R nr nc) : a 5 = nI nr := h.2.2.1.1
theorem mOK_nc {a : Nat → Int32} {Wd R nr nc : Nat} (h : mOK a Wd R nr nc) : a 6 = nI nc := h.2.2.2.1.1
theorem mOK_W0 {a : Nat → Int32} {Wd R nr nc : Nat} (h : mOK a Wd R nr nc) : 1 ≤ Wd := h.1.2.1
theorem mOK_W5 {a : Nat → Int32} {Wd R nr nc : Nat} (h : mOK a Wd R nr nc) : Wd ≤ 5 := h.1.2.2
theorem mOK_R0 {a : Nat → Int32} {Wd R nr nc : Nat} (h : mOK a Wd R nr nc) : 1 ≤ R := h.2.1.2.1
theorem mOK_R6 {a : Nat → Int32} {Wd R nr nc : Nat} (h : mOK a Wd R nr nc) : R ≤ 6 := h.2.1.2.2
theorem mOK_n4 {a : Nat → Int32} {Wd R nr nc : Nat} (h : mOK a Wd R nr nc) : nr ≤ 4 := h.2.2.1.2
theorem mOK_c6 {a : Nat → Int32} {Wd R nr nc : Nat} (h : mOK a Wd R nr nc) : nc ≤ 6 := h.2.2.2.1.2
theorem mOK_WR {a : Nat → Int32} {Wd R nr nc : Nat} (h : mOK a Wd R nr nc) : Wd * R ≤ 30 := Nat.mul_le_mul (mOK_W5 h) (mOK_R6 h)
theorem mOK_by {a : Nat → Int32} {Wd R nr nc : Nat} (h : mOK a Wd R nr nc) : a 10 = -1 ∨ (¬ a 10 < 0 ∧ (a 10).toNatClampNeg < nr) := h.2.2.2.2
theorem mOK_u {a : Nat → Int32} {Wd R nr nc k : Nat} {x : Int32} (h : mOK a Wd R nr nc) (hk : (2 ≤ k ∧ k ≤ 4) ∨ (7 ≤ k ∧ k ≤ 9) ∨ 11 ≤ k) : mOK (upd a k x) Wd R nr nc := by
  have e : ∀ j, j = 0 ∨ j = 1 ∨ j = 5 ∨ j = 6 ∨ j = 10 → upd a k x j = a j := fun j hj => pk_un (by omega)
  unfold mOK
  rw [e 0 (by omega), e 1 (by omega), e 5 (by omega), e 6 (by omega), e 10 (by omega)]
  exact h
theorem mOK_ub {a : Nat → Int32} {Wd R nr nc : Nat} {x : Int32} (h : mOK a Wd R nr nc) (hx : x = -1 ∨ (¬ x < 0 ∧ x.toNatClampNeg < nr)) : mOK (upd a 10 x) Wd R nr nc := by
  have e : ∀ j, j = 0 ∨ j = 1 ∨ j = 5 ∨ j = 6 → upd a 10 x j = a j := fun j hj => pk_un (by omega)
  unfold mOK
  rw [e 0 (by omega), e 1 (by omega), e 5 (by omega), e 6 (by omega), pk_us]
  exact ⟨h.1, h.2.1, h.2.2.1, h.2.2.2.1, hx⟩
theorem z_b1 (y : Int32) : y &&& 1 = nI (y &&& 1).toNatClampNeg := by
  obtain ⟨j, hj, e⟩ := pk_andE y (m := 1) 1 (by decide)
  rw [e, nI_clamp (by omega)]
theorem z_b1le (y : Int32) : (y &&& 1).toNatClampNeg ≤ 1 := by
  obtain ⟨j, hj, e⟩ := pk_andE y (m := 1) 1 (by decide)
  rw [e, nI_clamp (by omega)]; omega

def mW (G : zG) (ad : Nat → Nat) (m_status : Int32) (m_top : Int64) (m_bottom : Int64) (m_taped : Int32) (m_size : Int32) (m_token : Int32) (m_from : Int32) (m_end : Int32) (m_value : Int32) (m_faultKind : Int32) (m_faultPlace : Int32) (m_faults : Int32) (m_seen : Int32) (m_depth : Int32) (m_counted : Int32) (m_lead : Int32) (m_round : Int32) (m_tried : Int32) (m_triedMany : Int32) (m_drawn : Int32) (m_ranSteps : Int32) (m_isTold : Bool) (m_marks : Int32) (m_at : Nat → Int32) (m_names : Nat → Int64) (m_sort : Nat → Int32) (m_trayMany : Nat → Int32) (m_trays : Nat → Int64) (m_tape : Nat → Int32) (m_text : Nat → Int32) (m_opened : Nat → Int32) (m_beside : Nat → Int32) (m_then : Nat → Int32) (m_ways : Nat → Int64) (m_further : Nat → Int64) (m_canBe : Nat → Int32) (m_loops : Nat → Int32) (m_ran : Nat → Int32) (m_told0 : Nat → Int32) : va_W := [(ad 0, .inr (7, [.ref (ad 1), .ref (ad 2), .int m_status, .long m_top, .long m_bottom, .ref (ad 3), .ref (ad 4), .ref (ad 5), .ref (ad 6), .ref (ad 7), .int m_taped, .int m_size, .int m_token, .int m_from, .int m_end, .int m_value, .int m_faultKind, .int m_faultPlace, .int m_faults, .int m_seen, .ref (ad 8), .int m_depth, .int m_counted, .ref (ad 9), .ref (ad 10), .int m_lead, .int m_round, .ref (ad 11), .ref (ad 12), .ref (ad 13), .int m_tried, .int m_triedMany, .int m_drawn, .int m_ranSteps, .ref (ad 14), .ref (ad 15), .ref (ad 16), .int (zb m_isTold), .int m_marks])), (ad 1, .inl (G.2 0, 2460, .inl m_at)), (ad 2, .inl (G.2 1, 60, .inr (.inl m_names))), (ad 3, .inl (G.2 0, 4, .inl m_sort)), (ad 4, .inl (G.2 0, 4, .inl m_trayMany)), (ad 5, .inl (G.2 1, 240, .inr (.inl m_trays))), (ad 6, .inl (G.2 2, 900, .inl m_tape)), (ad 7, .inl (G.2 2, 900, .inl m_text)), (ad 8, .inl (G.2 0, 3, .inl m_opened)), (ad 9, .inl (G.2 0, 30, .inl m_beside)), (ad 10, .inl (G.2 0, 2001, .inl m_then)), (ad 11, .inl (G.2 1, 1024, .inr (.inl m_ways))), (ad 12, .inl (G.2 1, 1024, .inr (.inl m_further))), (ad 13, .inl (G.2 0, 6144, .inl m_canBe)), (ad 14, .inl (G.2 0, 80, .inl m_loops)), (ad 15, .inl (G.2 0, 5, .inl m_ran)), (ad 16, .inl (G.2 0, 5, .inl m_told0))]
def mf_status (m_status : Int32) : Int32 :=
  m_status
theorem hd_X7_status : yX7_status.cls = RX7 ∧ yX7_status.cls ≠ "java/lang/invoke/MethodHandle" ∧ yX7_status.cls ≠ "java/lang/invoke/VarHandle" ∧ (parseMethodDescriptor yX7_status.desc).map (fun d => d.parameters.length) = some 0 := by decide +kernel
set_option maxHeartbeats 4000000 in
set_option maxRecDepth 100000 in
theorem mt_mf_status (l : Launch) (G : zG) (ad : Nat → Nat) (m_status : Int32) (m_top : Int64) (m_bottom : Int64) (m_taped : Int32) (m_size : Int32) (m_token : Int32) (m_from : Int32) (m_end : Int32) (m_value : Int32) (m_faultKind : Int32) (m_faultPlace : Int32) (m_faults : Int32) (m_seen : Int32) (m_depth : Int32) (m_counted : Int32) (m_lead : Int32) (m_round : Int32) (m_tried : Int32) (m_triedMany : Int32) (m_drawn : Int32) (m_ranSteps : Int32) (m_isTold : Bool) (m_marks : Int32) (m_at : Nat → Int32) (m_names : Nat → Int64) (m_sort : Nat → Int32) (m_trayMany : Nat → Int32) (m_trays : Nat → Int64) (m_tape : Nat → Int32) (m_text : Nat → Int32) (m_opened : Nat → Int32) (m_beside : Nat → Int32) (m_then : Nat → Int32) (m_ways : Nat → Int64) (m_further : Nat → Int64) (m_canBe : Nat → Int32) (m_loops : Nat → Int32) (m_ran : Nat → Int32) (m_told0 : Nat → Int32) : Met l yX7_status (ws_ yX7_status cX7_status 1 (some .int)) (zR 1 0 0) (zPo G [.ref (ad 0)] (mW G ad m_status m_top m_bottom m_taped m_size m_token m_from m_end m_value m_faultKind m_faultPlace m_faults m_seen m_depth m_counted m_lead m_round m_tried m_triedMany m_drawn m_ranSteps m_isTold m_marks m_at m_names m_sort m_trayMany m_trays m_tape m_text m_opened m_beside m_then m_ways m_further m_canBe m_loops m_ran m_told0)) (k2_QcV (.int (mf_status m_status))) 0 0 (fun _ => False) := by
  refine zr_entO (by decide) (Nat.le_of_ble_eq_true rfl) ?_
  intro p e s m below meth c ⟨hx, hb, hr, hml, hown, hts, hlocks, hnm⟩ ls hl hP hK hE
  have hown : s.vm.findClass RX7 = some m.cls := hown
  have hl : lv_has ls 1 [(0, .ref (ad 0))] := hl
  refine lv_aload_n hx hb dX7_status_0 rfl (lv_at hl 0 rfl) ?_
  refine va_get (D := G.1) (ci := 7) (v := .int m_status) (C := RX7) (T := TX7) (N := 39) hx hb hts in_X7 hown hK.1 hP 0 rfl rfl 2 (Nat.le_of_ble_eq_true rfl) (hts _ q1469) (fun _ h => h) rfl dX7_status_1 ?_
  have e_ : mf_status m_status = m_status := by rw [mf_status]
  exact zr_oi hx hb hr hlocks dX7_status_4 (congrArg Value.int e_)
def mf_top (m_top : Int64) : Int64 :=
  m_top
theorem hd_X7_top : yX7_top.cls = RX7 ∧ yX7_top.cls ≠ "java/lang/invoke/MethodHandle" ∧ yX7_top.cls ≠ "java/lang/invoke/VarHandle" ∧ (parseMethodDescriptor yX7_top.desc).map (fun d => d.parameters.length) = some 0 := by decide +kernel
set_option maxHeartbeats 4000000 in
set_option maxRecDepth 100000 in
theorem mt_mf_top (l : Launch) (G : zG) (ad : Nat → Nat) (m_status : Int32) (m_top : Int64) (m_bottom : Int64) (m_taped : Int32) (m_size : Int32) (m_token : Int32) (m_from : Int32) (m_end : Int32) (m_value : Int32) (m_faultKind : Int32) (m_faultPlace : Int32) (m_faults : Int32) (m_seen : Int32) (m_depth : Int32) (m_counted : Int32) (m_lead : Int32) (m_round : Int32) (m_tried : Int32) (m_triedMany : Int32) (m_drawn : Int32) (m_ranSteps : Int32) (m_isTold : Bool) (m_marks : Int32) (m_at : Nat → Int32) (m_names : Nat → Int64) (m_sort : Nat → Int32) (m_trayMany : Nat → Int32) (m_trays : Nat → Int64) (m_tape : Nat → Int32) (m_text : Nat → Int32) (m_opened : Nat → Int32) (m_beside : Nat → Int32) (m_then : Nat → Int32) (m_ways : Nat → Int64) (m_further : Nat → Int64) (m_canBe : Nat → Int32) (m_loops : Nat → Int32) (m_ran : Nat → Int32) (m_told0 : Nat → Int32) : Met l yX7_top (ws_ yX7_top cX7_top 1 (some .long)) (zR 1 0 0) (zPo G [.ref (ad 0)] (mW G ad m_status m_top m_bottom m_taped m_size m_token m_from m_end m_value m_faultKind m_faultPlace m_faults m_seen m_depth m_counted m_lead m_round m_tried m_triedMany m_drawn m_ranSteps m_isTold m_marks m_at m_names m_sort m_trayMany m_trays m_tape m_text m_opened m_beside m_then m_ways m_further m_canBe m_loops m_ran m_told0)) (k2_QcV (.long (mf_top m_top))) 0 0 (fun _ => False) := by
  refine zr_entO (by decide) (Nat.le_of_ble_eq_true rfl) ?_
  intro p e s m below meth c ⟨hx, hb, hr, hml, hown, hts, hlocks, hnm⟩ ls hl hP hK hE
  have hown : s.vm.findClass RX7 = some m.cls := hown
  have hl : lv_has ls 1 [(0, .ref (ad 0))] := hl
  refine lv_aload_n hx hb dX7_top_0 rfl (lv_at hl 0 rfl) ?_
  refine va_get (D := G.1) (ci := 7) (v := .long m_top) (C := RX7) (T := TX7) (N := 39) hx hb hts in_X7 hown hK.1 hP 0 rfl rfl 3 (Nat.le_of_ble_eq_true rfl) (hts _ q1470) (fun _ h => h) rfl dX7_top_1 ?_
  have e_ : mf_top m_top = m_top := by rw [mf_top]
  exact zr_ol hx hb hr hlocks dX7_top_4 (congrArg Value.long e_)
def mf_bottom (m_bottom : Int64) : Int64 :=
  m_bottom
theorem hd_X7_bottom : yX7_bottom.cls = RX7 ∧ yX7_bottom.cls ≠ "java/lang/invoke/MethodHandle" ∧ yX7_bottom.cls ≠ "java/lang/invoke/VarHandle" ∧ (parseMethodDescriptor yX7_bottom.desc).map (fun d => d.parameters.length) = some 0 := by decide +kernel
set_option maxHeartbeats 4000000 in
set_option maxRecDepth 100000 in
theorem mt_mf_bottom (l : Launch) (G : zG) (ad : Nat → Nat) (m_status : Int32) (m_top : Int64) (m_bottom : Int64) (m_taped : Int32) (m_size : Int32) (m_token : Int32) (m_from : Int32) (m_end : Int32) (m_value : Int32) (m_faultKind : Int32) (m_faultPlace : Int32) (m_faults : Int32) (m_seen : Int32) (m_depth : Int32) (m_counted : Int32) (m_lead : Int32) (m_round : Int32) (m_tried : Int32) (m_triedMany : Int32) (m_drawn : Int32) (m_ranSteps : Int32) (m_isTold : Bool) (m_marks : Int32) (m_at : Nat → Int32) (m_names : Nat → Int64) (m_sort : Nat → Int32) (m_trayMany : Nat → Int32) (m_trays : Nat → Int64) (m_tape : Nat → Int32) (m_text : Nat → Int32) (m_opened : Nat → Int32) (m_beside : Nat → Int32) (m_then : Nat → Int32) (m_ways : Nat → Int64) (m_further : Nat → Int64) (m_canBe : Nat → Int32) (m_loops : Nat → Int32) (m_ran : Nat → Int32) (m_told0 : Nat → Int32) : Met l yX7_bottom (ws_ yX7_bottom cX7_bottom 1 (some .long)) (zR 1 0 0) (zPo G [.ref (ad 0)] (mW G ad m_status m_top m_bottom m_taped m_size m_token m_from m_end m_value m_faultKind m_faultPlace m_faults m_seen m_depth m_counted m_lead m_round m_tried m_triedMany m_drawn m_ranSteps m_isTold m_marks m_at m_names m_sort m_trayMany m_trays m_tape m_text m_opened m_beside m_then m_ways m_further m_canBe m_loops m_ran m_told0)) (k2_QcV (.long (mf_bottom m_bottom))) 0 0 (fun _ => False) := by
  refine zr_entO (by decide) (Nat.le_of_ble_eq_true rfl) ?_
  intro p e s m below meth c ⟨hx, hb, hr, hml, hown, hts, hlocks, hnm⟩ ls hl hP hK hE
  have hown : s.vm.findClass RX7 = some m.cls := hown
  have hl : lv_has ls 1 [(0, .ref (ad 0))] := hl
  refine lv_aload_n hx hb dX7_bottom_0 rfl (lv_at hl 0 rfl) ?_
  refine va_get (D := G.1) (ci := 7) (v := .long m_bottom) (C := RX7) (T := TX7) (N := 39) hx hb hts in_X7 hown hK.1 hP 0 rfl rfl 4 (Nat.le_of_ble_eq_true rfl) (hts _ q1471) (fun _ h => h) rfl dX7_bottom_1 ?_
  have e_ : mf_bottom m_bottom = m_bottom := by rw [mf_bottom]
  exact zr_ol hx hb hr hlocks dX7_bottom_4 (congrArg Value.long e_)
theorem hd_X7_is : yX7_is.cls = RX7 ∧ yX7_is.cls ≠ "java/lang/invoke/MethodHandle" ∧ yX7_is.cls ≠ "java/lang/invoke/VarHandle" ∧ (parseMethodDescriptor yX7_is.desc).map (fun d => d.parameters.length) = some 1 := by decide +kernel
set_option maxHeartbeats 4000000 in
set_option maxRecDepth 100000 in
theorem mt_mf_is (l : Launch) (G : zG) (ad : Nat → Nat) (m_status : Int32) (m_top : Int64) (m_bottom : Int64) (m_taped : Int32) (m_size : Int32) (m_token : Int32) (m_from : Int32) (m_end : Int32) (m_value : Int32) (m_faultKind : Int32) (m_faultPlace : Int32) (m_faults : Int32) (m_seen : Int32) (m_depth : Int32) (m_counted : Int32) (m_lead : Int32) (m_round : Int32) (m_tried : Int32) (m_triedMany : Int32) (m_drawn : Int32) (m_ranSteps : Int32) (m_isTold : Bool) (m_marks : Int32) (m_at : Nat → Int32) (m_names : Nat → Int64) (m_sort : Nat → Int32) (m_trayMany : Nat → Int32) (m_trays : Nat → Int64) (m_tape : Nat → Int32) (m_text : Nat → Int32) (m_opened : Nat → Int32) (m_beside : Nat → Int32) (m_then : Nat → Int32) (m_ways : Nat → Int64) (m_further : Nat → Int64) (m_canBe : Nat → Int32) (m_loops : Nat → Int32) (m_ran : Nat → Int32) (m_told0 : Nat → Int32) (why : Int32) (sz : Nat) : Met l yX7_is (ws_ yX7_is cX7_is 2 (some .boolean)) (zR 1 0 0) (zPm G sz [.ref (ad 0), .int why] (mW G ad m_status m_top m_bottom m_taped m_size m_token m_from m_end m_value m_faultKind m_faultPlace m_faults m_seen m_depth m_counted m_lead m_round m_tried m_triedMany m_drawn m_ranSteps m_isTold m_marks m_at m_names m_sort m_trayMany m_trays m_tape m_text m_opened m_beside m_then m_ways m_further m_canBe m_loops m_ran m_told0)) (zQm G (True) (some (.int (zb (decide (why = 0))))) (mW G ad why m_top m_bottom m_taped m_size m_token m_from m_end m_value m_faultKind m_faultPlace m_faults m_seen m_depth m_counted m_lead m_round m_tried m_triedMany m_drawn m_ranSteps m_isTold m_marks m_at m_names m_sort m_trayMany m_trays m_tape m_text m_opened m_beside m_then m_ways m_further m_canBe m_loops m_ran m_told0) (va_A (mW G ad m_status m_top m_bottom m_taped m_size m_token m_from m_end m_value m_faultKind m_faultPlace m_faults m_seen m_depth m_counted m_lead m_round m_tried m_triedMany m_drawn m_ranSteps m_isTold m_marks m_at m_names m_sort m_trayMany m_trays m_tape m_text m_opened m_beside m_then m_ways m_further m_canBe m_loops m_ran m_told0) sz)) 0 0 (va_A (mW G ad m_status m_top m_bottom m_taped m_size m_token m_from m_end m_value m_faultKind m_faultPlace m_faults m_seen m_depth m_counted m_lead m_round m_tried m_triedMany m_drawn m_ranSteps m_isTold m_marks m_at m_names m_sort m_trayMany m_trays m_tape m_text m_opened m_beside m_then m_ways m_further m_canBe m_loops m_ran m_told0) sz) := by
  refine zr_entM (by decide) (Nat.le_of_ble_eq_true rfl) ?_
  intro p e s m below meth c ⟨hx, hb, hr, hml, hown, hts, hlocks, hnm⟩ ls hl hP hK A hE hA hD hS
  have hown : s.vm.findClass RX7 = some m.cls := hown
  have hl : lv_has ls 2 [(0, .ref (ad 0)), (1, .int why)] := hl
  obtain ⟨H, hH⟩ : ∃ H, H = s.heap := ⟨_, rfl⟩
  obtain ⟨locs, hlo⟩ : ∃ L : List Loc, L = [] := ⟨_, rfl⟩
  rw [← hH] at hP
  have hS : va_S A s.heap H locs := by rw [hH, hlo]; exact va_S.rf
  have hgo : W p l e (zR 1 0 0) s m ([.ref (ad 0), .int why] : List Value).toArray below meth c H locs 0 0 (MQ below (zQm G (True) (some (.int (zb (decide (why = 0))))) (mW G ad why m_top m_bottom m_taped m_size m_token m_from m_end m_value m_faultKind m_faultPlace m_faults m_seen m_depth m_counted m_lead m_round m_tried m_triedMany m_drawn m_ranSteps m_isTold m_marks m_at m_names m_sort m_trayMany m_trays m_tape m_text m_opened m_beside m_then m_ways m_further m_canBe m_loops m_ran m_told0) A) ([.ref (ad 0), .int why] : List Value).toArray s 0 0 A) (F0 m 0 ls []) := ?_
  · rw [hH, hlo] at hgo; exact hgo
  clear hH hlo
  refine lv_aload_n hx hb dX7_is_0 rfl (lv_at hl 0 rfl) ?_
  refine lv_iload_n hx hb dX7_is_1 rfl (lv_at hl 1 rfl) ?_
  refine va_put (D := G.1) (ci := 7) (v := .int why) (ty := .int) (C := RX7) (T := TX7) (N := 39) hx hb hts in_X7 tyX7 tyX7_ok nmX7 hown hK.1 hP hD hS 0 rfl rfl 2 (Nat.le_of_ble_eq_true rfl) (hts _ q1469) (fun _ h => h) rfl (tyX7_ok 2 (Nat.le_of_ble_eq_true rfl)) rfl rfl (Nat.le_of_ble_eq_true rfl) dX7_is_2 (fun H locs hP hD hS => ?_)
  have hP : va_P G.1 zcl (mW G ad why m_top m_bottom m_taped m_size m_token m_from m_end m_value m_faultKind m_faultPlace m_faults m_seen m_depth m_counted m_lead m_round m_tried m_triedMany m_drawn m_ranSteps m_isTold m_marks m_at m_names m_sort m_trayMany m_trays m_tape m_text m_opened m_beside m_then m_ways m_further m_canBe m_loops m_ran m_told0) H := hP
  have hD : va_D A (mW G ad why m_top m_bottom m_taped m_size m_token m_from m_end m_value m_faultKind m_faultPlace m_faults m_seen m_depth m_counted m_lead m_round m_tried m_triedMany m_drawn m_ranSteps m_isTold m_marks m_at m_names m_sort m_trayMany m_trays m_tape m_text m_opened m_beside m_then m_ways m_further m_canBe m_loops m_ran m_told0) := hD
  refine lv_iload_n hx hb dX7_is_5 rfl (lv_at hl 1 rfl) ?_
  refine lv_if_ne (tgt := 13) hx hb dX7_is_6 (by decide) (fun c_1 => ?_) (fun c_1 => ?_)
  · refine lv_iconst (v := 0) hx hb dX7_is_13 (by decide) ?_
    exact zr_mz hx hb hr hlocks hP hD hS dX7_is_14 rfl (by first | rfl | (rw [zb_t (decide_eq_true c_1)]) | (rw [zb_f (by simpa using c_1)])) rfl trivial
  · refine lv_iconst (v := 1) hx hb dX7_is_9 (by decide) ?_
    refine lv_goto (tgt := 14) hx hb dX7_is_10 (by decide) ?_
    exact zr_mz hx hb hr hlocks hP hD hS dX7_is_14 rfl (by first | rfl | (rw [zb_t (decide_eq_true c_1)]) | (rw [zb_f (by simpa using c_1)])) rfl trivial
theorem hd_X7_refuse : yX7_refuse.cls = RX7 ∧ yX7_refuse.cls ≠ "java/lang/invoke/MethodHandle" ∧ yX7_refuse.cls ≠ "java/lang/invoke/VarHandle" ∧ (parseMethodDescriptor yX7_refuse.desc).map (fun d => d.parameters.length) = some 1 := by decide +kernel
set_option maxHeartbeats 4000000 in
set_option maxRecDepth 100000 in
theorem mt_mf_refuse (l : Launch) (G : zG) (ad : Nat → Nat) (m_status : Int32) (m_top : Int64) (m_bottom : Int64) (m_taped : Int32) (m_size : Int32) (m_token : Int32) (m_from : Int32) (m_end : Int32) (m_value : Int32) (m_faultKind : Int32) (m_faultPlace : Int32) (m_faults : Int32) (m_seen : Int32) (m_depth : Int32) (m_counted : Int32) (m_lead : Int32) (m_round : Int32) (m_tried : Int32) (m_triedMany : Int32) (m_drawn : Int32) (m_ranSteps : Int32) (m_isTold : Bool) (m_marks : Int32) (m_at : Nat → Int32) (m_names : Nat → Int64) (m_sort : Nat → Int32) (m_trayMany : Nat → Int32) (m_trays : Nat → Int64) (m_tape : Nat → Int32) (m_text : Nat → Int32) (m_opened : Nat → Int32) (m_beside : Nat → Int32) (m_then : Nat → Int32) (m_ways : Nat → Int64) (m_further : Nat → Int64) (m_canBe : Nat → Int32) (m_loops : Nat → Int32) (m_ran : Nat → Int32) (m_told0 : Nat → Int32) (why : Int32) (sz : Nat) : Met l yX7_refuse (ws_ yX7_refuse cX7_refuse 2 (some .int)) (zR 1 0 0) (zPm G sz [.ref (ad 0), .int why] (mW G ad m_status m_top m_bottom m_taped m_size m_token m_from m_end m_value m_faultKind m_faultPlace m_faults m_seen m_depth m_counted m_lead m_round m_tried m_triedMany m_drawn m_ranSteps m_isTold m_marks m_at m_names m_sort m_trayMany m_trays m_tape m_text m_opened m_beside m_then m_ways m_further m_canBe m_loops m_ran m_told0)) (zQm G (True) (some (.int (-1))) (mW G ad why m_top m_bottom m_taped m_size m_token m_from m_end m_value m_faultKind m_faultPlace m_faults m_seen m_depth m_counted m_lead m_round m_tried m_triedMany m_drawn m_ranSteps m_isTold m_marks m_at m_names m_sort m_trayMany m_trays m_tape m_text m_opened m_beside m_then m_ways m_further m_canBe m_loops m_ran m_told0) (va_A (mW G ad m_status m_top m_bottom m_taped m_size m_token m_from m_end m_value m_faultKind m_faultPlace m_faults m_seen m_depth m_counted m_lead m_round m_tried m_triedMany m_drawn m_ranSteps m_isTold m_marks m_at m_names m_sort m_trayMany m_trays m_tape m_text m_opened m_beside m_then m_ways m_further m_canBe m_loops m_ran m_told0) sz)) 0 0 (va_A (mW G ad m_status m_top m_bottom m_taped m_size m_token m_from m_end m_value m_faultKind m_faultPlace m_faults m_seen m_depth m_counted m_lead m_round m_tried m_triedMany m_drawn m_ranSteps m_isTold m_marks m_at m_names m_sort m_trayMany m_trays m_tape m_text m_opened m_beside m_then m_ways m_further m_canBe m_loops m_ran m_told0) sz) := by
  refine zr_entM (by decide) (Nat.le_of_ble_eq_true rfl) ?_
  intro p e s m below meth c ⟨hx, hb, hr, hml, hown, hts, hlocks, hnm⟩ ls hl hP hK A hE hA hD hS
  have hown : s.vm.findClass RX7 = some m.cls := hown
  have hl : lv_has ls 2 [(0, .ref (ad 0)), (1, .int why)] := hl
  obtain ⟨H, hH⟩ : ∃ H, H = s.heap := ⟨_, rfl⟩
  obtain ⟨locs, hlo⟩ : ∃ L : List Loc, L = [] := ⟨_, rfl⟩
  rw [← hH] at hP
  have hS : va_S A s.heap H locs := by rw [hH, hlo]; exact va_S.rf
  have hgo : W p l e (zR 1 0 0) s m ([.ref (ad 0), .int why] : List Value).toArray below meth c H locs 0 0 (MQ below (zQm G (True) (some (.int (-1))) (mW G ad why m_top m_bottom m_taped m_size m_token m_from m_end m_value m_faultKind m_faultPlace m_faults m_seen m_depth m_counted m_lead m_round m_tried m_triedMany m_drawn m_ranSteps m_isTold m_marks m_at m_names m_sort m_trayMany m_trays m_tape m_text m_opened m_beside m_then m_ways m_further m_canBe m_loops m_ran m_told0) A) ([.ref (ad 0), .int why] : List Value).toArray s 0 0 A) (F0 m 0 ls []) := ?_
  · rw [hH, hlo] at hgo; exact hgo
  clear hH hlo
  refine lv_aload_n hx hb dX7_refuse_0 rfl (lv_at hl 0 rfl) ?_
  refine lv_iload_n hx hb dX7_refuse_1 rfl (lv_at hl 1 rfl) ?_
  refine va_put (D := G.1) (ci := 7) (v := .int why) (ty := .int) (C := RX7) (T := TX7) (N := 39) hx hb hts in_X7 tyX7 tyX7_ok nmX7 hown hK.1 hP hD hS 0 rfl rfl 2 (Nat.le_of_ble_eq_true rfl) (hts _ q1469) (fun _ h => h) rfl (tyX7_ok 2 (Nat.le_of_ble_eq_true rfl)) rfl rfl (Nat.le_of_ble_eq_true rfl) dX7_refuse_2 (fun H locs hP hD hS => ?_)
  have hP : va_P G.1 zcl (mW G ad why m_top m_bottom m_taped m_size m_token m_from m_end m_value m_faultKind m_faultPlace m_faults m_seen m_depth m_counted m_lead m_round m_tried m_triedMany m_drawn m_ranSteps m_isTold m_marks m_at m_names m_sort m_trayMany m_trays m_tape m_text m_opened m_beside m_then m_ways m_further m_canBe m_loops m_ran m_told0) H := hP
  have hD : va_D A (mW G ad why m_top m_bottom m_taped m_size m_token m_from m_end m_value m_faultKind m_faultPlace m_faults m_seen m_depth m_counted m_lead m_round m_tried m_triedMany m_drawn m_ranSteps m_isTold m_marks m_at m_names m_sort m_trayMany m_trays m_tape m_text m_opened m_beside m_then m_ways m_further m_canBe m_loops m_ran m_told0) := hD
  refine lv_iconst (v := (-1)) hx hb dX7_refuse_5 (by decide) ?_
  exact zr_mi hx hb hr hlocks hP hD hS dX7_refuse_6 rfl rfl trivial
theorem hd_X7_gives : yX7_gives.cls = RX7 ∧ yX7_gives.cls ≠ "java/lang/invoke/MethodHandle" ∧ yX7_gives.cls ≠ "java/lang/invoke/VarHandle" ∧ (parseMethodDescriptor yX7_gives.desc).map (fun d => d.parameters.length) = some 1 := by decide +kernel
set_option maxHeartbeats 4000000 in
set_option maxRecDepth 100000 in
theorem mt_mf_gives (l : Launch) (G : zG) (ad : Nat → Nat) (m_status : Int32) (m_top : Int64) (m_bottom : Int64) (m_taped : Int32) (m_size : Int32) (m_token : Int32) (m_from : Int32) (m_end : Int32) (m_value : Int32) (m_faultKind : Int32) (m_faultPlace : Int32) (m_faults : Int32) (m_seen : Int32) (m_depth : Int32) (m_counted : Int32) (m_lead : Int32) (m_round : Int32) (m_tried : Int32) (m_triedMany : Int32) (m_drawn : Int32) (m_ranSteps : Int32) (m_isTold : Bool) (m_marks : Int32) (m_at : Nat → Int32) (m_names : Nat → Int64) (m_sort : Nat → Int32) (m_trayMany : Nat → Int32) (m_trays : Nat → Int64) (m_tape : Nat → Int32) (m_text : Nat → Int32) (m_opened : Nat → Int32) (m_beside : Nat → Int32) (m_then : Nat → Int32) (m_ways : Nat → Int64) (m_further : Nat → Int64) (m_canBe : Nat → Int32) (m_loops : Nat → Int32) (m_ran : Nat → Int32) (m_told0 : Nat → Int32) (v : Int32) (sz : Nat) : Met l yX7_gives (ws_ yX7_gives cX7_gives 2 (some .int)) (zR 1 0 0) (zPm G sz [.ref (ad 0), .int v] (mW G ad m_status m_top m_bottom m_taped m_size m_token m_from m_end m_value m_faultKind m_faultPlace m_faults m_seen m_depth m_counted m_lead m_round m_tried m_triedMany m_drawn m_ranSteps m_isTold m_marks m_at m_names m_sort m_trayMany m_trays m_tape m_text m_opened m_beside m_then m_ways m_further m_canBe m_loops m_ran m_told0)) (zQm G (True) (some (.int v)) (mW G ad 0 m_top m_bottom m_taped m_size m_token m_from m_end m_value m_faultKind m_faultPlace m_faults m_seen m_depth m_counted m_lead m_round m_tried m_triedMany m_drawn m_ranSteps m_isTold m_marks m_at m_names m_sort m_trayMany m_trays m_tape m_text m_opened m_beside m_then m_ways m_further m_canBe m_loops m_ran m_told0) (va_A (mW G ad m_status m_top m_bottom m_taped m_size m_token m_from m_end m_value m_faultKind m_faultPlace m_faults m_seen m_depth m_counted m_lead m_round m_tried m_triedMany m_drawn m_ranSteps m_isTold m_marks m_at m_names m_sort m_trayMany m_trays m_tape m_text m_opened m_beside m_then m_ways m_further m_canBe m_loops m_ran m_told0) sz)) 0 0 (va_A (mW G ad m_status m_top m_bottom m_taped m_size m_token m_from m_end m_value m_faultKind m_faultPlace m_faults m_seen m_depth m_counted m_lead m_round m_tried m_triedMany m_drawn m_ranSteps m_isTold m_marks m_at m_names m_sort m_trayMany m_trays m_tape m_text m_opened m_beside m_then m_ways m_further m_canBe m_loops m_ran m_told0) sz) := by
  refine zr_entM (by decide) (Nat.le_of_ble_eq_true rfl) ?_
  intro p e s m below meth c ⟨hx, hb, hr, hml, hown, hts, hlocks, hnm⟩ ls hl hP hK A hE hA hD hS
  have hown : s.vm.findClass RX7 = some m.cls := hown
  have hl : lv_has ls 2 [(0, .ref (ad 0)), (1, .int v)] := hl
  obtain ⟨H, hH⟩ : ∃ H, H = s.heap := ⟨_, rfl⟩
  obtain ⟨locs, hlo⟩ : ∃ L : List Loc, L = [] := ⟨_, rfl⟩
  rw [← hH] at hP
  have hS : va_S A s.heap H locs := by rw [hH, hlo]; exact va_S.rf
  have hgo : W p l e (zR 1 0 0) s m ([.ref (ad 0), .int v] : List Value).toArray below meth c H locs 0 0 (MQ below (zQm G (True) (some (.int v)) (mW G ad 0 m_top m_bottom m_taped m_size m_token m_from m_end m_value m_faultKind m_faultPlace m_faults m_seen m_depth m_counted m_lead m_round m_tried m_triedMany m_drawn m_ranSteps m_isTold m_marks m_at m_names m_sort m_trayMany m_trays m_tape m_text m_opened m_beside m_then m_ways m_further m_canBe m_loops m_ran m_told0) A) ([.ref (ad 0), .int v] : List Value).toArray s 0 0 A) (F0 m 0 ls []) := ?_
  · rw [hH, hlo] at hgo; exact hgo
  clear hH hlo
  refine lv_aload_n hx hb dX7_gives_0 rfl (lv_at hl 0 rfl) ?_
  refine lv_iconst (v := 0) hx hb dX7_gives_1 (by decide) ?_
  refine va_put (D := G.1) (ci := 7) (v := .int 0) (ty := .int) (C := RX7) (T := TX7) (N := 39) hx hb hts in_X7 tyX7 tyX7_ok nmX7 hown hK.1 hP hD hS 0 rfl rfl 2 (Nat.le_of_ble_eq_true rfl) (hts _ q1469) (fun _ h => h) rfl (tyX7_ok 2 (Nat.le_of_ble_eq_true rfl)) rfl rfl (Nat.le_of_ble_eq_true rfl) dX7_gives_2 (fun H locs hP hD hS => ?_)
  have hP : va_P G.1 zcl (mW G ad 0 m_top m_bottom m_taped m_size m_token m_from m_end m_value m_faultKind m_faultPlace m_faults m_seen m_depth m_counted m_lead m_round m_tried m_triedMany m_drawn m_ranSteps m_isTold m_marks m_at m_names m_sort m_trayMany m_trays m_tape m_text m_opened m_beside m_then m_ways m_further m_canBe m_loops m_ran m_told0) H := hP
  have hD : va_D A (mW G ad 0 m_top m_bottom m_taped m_size m_token m_from m_end m_value m_faultKind m_faultPlace m_faults m_seen m_depth m_counted m_lead m_round m_tried m_triedMany m_drawn m_ranSteps m_isTold m_marks m_at m_names m_sort m_trayMany m_trays m_tape m_text m_opened m_beside m_then m_ways m_further m_canBe m_loops m_ran m_told0) := hD
  refine lv_iload_n hx hb dX7_gives_5 rfl (lv_at hl 1 rfl) ?_
  exact zr_mi hx hb hr hlocks hP hD hS dX7_gives_6 rfl rfl trivial
theorem hd_X7_givesLong : yX7_givesLong.cls = RX7 ∧ yX7_givesLong.cls ≠ "java/lang/invoke/MethodHandle" ∧ yX7_givesLong.cls ≠ "java/lang/invoke/VarHandle" ∧ (parseMethodDescriptor yX7_givesLong.desc).map (fun d => d.parameters.length) = some 1 := by decide +kernel
set_option maxHeartbeats 4000000 in
set_option maxRecDepth 100000 in
theorem mt_mf_givesLong (l : Launch) (G : zG) (ad : Nat → Nat) (m_status : Int32) (m_top : Int64) (m_bottom : Int64) (m_taped : Int32) (m_size : Int32) (m_token : Int32) (m_from : Int32) (m_end : Int32) (m_value : Int32) (m_faultKind : Int32) (m_faultPlace : Int32) (m_faults : Int32) (m_seen : Int32) (m_depth : Int32) (m_counted : Int32) (m_lead : Int32) (m_round : Int32) (m_tried : Int32) (m_triedMany : Int32) (m_drawn : Int32) (m_ranSteps : Int32) (m_isTold : Bool) (m_marks : Int32) (m_at : Nat → Int32) (m_names : Nat → Int64) (m_sort : Nat → Int32) (m_trayMany : Nat → Int32) (m_trays : Nat → Int64) (m_tape : Nat → Int32) (m_text : Nat → Int32) (m_opened : Nat → Int32) (m_beside : Nat → Int32) (m_then : Nat → Int32) (m_ways : Nat → Int64) (m_further : Nat → Int64) (m_canBe : Nat → Int32) (m_loops : Nat → Int32) (m_ran : Nat → Int32) (m_told0 : Nat → Int32) (v : Int64) (sz : Nat) : Met l yX7_givesLong (ws_ yX7_givesLong cX7_givesLong 3 (some .long)) (zR 1 0 0) (zPm G sz [.ref (ad 0), .long v] (mW G ad m_status m_top m_bottom m_taped m_size m_token m_from m_end m_value m_faultKind m_faultPlace m_faults m_seen m_depth m_counted m_lead m_round m_tried m_triedMany m_drawn m_ranSteps m_isTold m_marks m_at m_names m_sort m_trayMany m_trays m_tape m_text m_opened m_beside m_then m_ways m_further m_canBe m_loops m_ran m_told0)) (zQm G (True) (some (.long v)) (mW G ad 0 m_top m_bottom m_taped m_size m_token m_from m_end m_value m_faultKind m_faultPlace m_faults m_seen m_depth m_counted m_lead m_round m_tried m_triedMany m_drawn m_ranSteps m_isTold m_marks m_at m_names m_sort m_trayMany m_trays m_tape m_text m_opened m_beside m_then m_ways m_further m_canBe m_loops m_ran m_told0) (va_A (mW G ad m_status m_top m_bottom m_taped m_size m_token m_from m_end m_value m_faultKind m_faultPlace m_faults m_seen m_depth m_counted m_lead m_round m_tried m_triedMany m_drawn m_ranSteps m_isTold m_marks m_at m_names m_sort m_trayMany m_trays m_tape m_text m_opened m_beside m_then m_ways m_further m_canBe m_loops m_ran m_told0) sz)) 0 0 (va_A (mW G ad m_status m_top m_bottom m_taped m_size m_token m_from m_end m_value m_faultKind m_faultPlace m_faults m_seen m_depth m_counted m_lead m_round m_tried m_triedMany m_drawn m_ranSteps m_isTold m_marks m_at m_names m_sort m_trayMany m_trays m_tape m_text m_opened m_beside m_then m_ways m_further m_canBe m_loops m_ran m_told0) sz) := by
  refine zr_entM (by decide) (Nat.le_of_ble_eq_true rfl) ?_
  intro p e s m below meth c ⟨hx, hb, hr, hml, hown, hts, hlocks, hnm⟩ ls hl hP hK A hE hA hD hS
  have hown : s.vm.findClass RX7 = some m.cls := hown
  have hl : lv_has ls 3 [(0, .ref (ad 0)), (1, .long v)] := hl
  obtain ⟨H, hH⟩ : ∃ H, H = s.heap := ⟨_, rfl⟩
  obtain ⟨locs, hlo⟩ : ∃ L : List Loc, L = [] := ⟨_, rfl⟩
  rw [← hH] at hP
  have hS : va_S A s.heap H locs := by rw [hH, hlo]; exact va_S.rf
  have hgo : W p l e (zR 1 0 0) s m ([.ref (ad 0), .long v] : List Value).toArray below meth c H locs 0 0 (MQ below (zQm G (True) (some (.long v)) (mW G ad 0 m_top m_bottom m_taped m_size m_token m_from m_end m_value m_faultKind m_faultPlace m_faults m_seen m_depth m_counted m_lead m_round m_tried m_triedMany m_drawn m_ranSteps m_isTold m_marks m_at m_names m_sort m_trayMany m_trays m_tape m_text m_opened m_beside m_then m_ways m_further m_canBe m_loops m_ran m_told0) A) ([.ref (ad 0), .long v] : List Value).toArray s 0 0 A) (F0 m 0 ls []) := ?_
  · rw [hH, hlo] at hgo; exact hgo
  clear hH hlo
  refine lv_aload_n hx hb dX7_givesLong_0 rfl (lv_at hl 0 rfl) ?_
  refine lv_iconst (v := 0) hx hb dX7_givesLong_1 (by decide) ?_
  refine va_put (D := G.1) (ci := 7) (v := .int 0) (ty := .int) (C := RX7) (T := TX7) (N := 39) hx hb hts in_X7 tyX7 tyX7_ok nmX7 hown hK.1 hP hD hS 0 rfl rfl 2 (Nat.le_of_ble_eq_true rfl) (hts _ q1469) (fun _ h => h) rfl (tyX7_ok 2 (Nat.le_of_ble_eq_true rfl)) rfl rfl (Nat.le_of_ble_eq_true rfl) dX7_givesLong_2 (fun H locs hP hD hS => ?_)
  have hP : va_P G.1 zcl (mW G ad 0 m_top m_bottom m_taped m_size m_token m_from m_end m_value m_faultKind m_faultPlace m_faults m_seen m_depth m_counted m_lead m_round m_tried m_triedMany m_drawn m_ranSteps m_isTold m_marks m_at m_names m_sort m_trayMany m_trays m_tape m_text m_opened m_beside m_then m_ways m_further m_canBe m_loops m_ran m_told0) H := hP
  have hD : va_D A (mW G ad 0 m_top m_bottom m_taped m_size m_token m_from m_end m_value m_faultKind m_faultPlace m_faults m_seen m_depth m_counted m_lead m_round m_tried m_triedMany m_drawn m_ranSteps m_isTold m_marks m_at m_names m_sort m_trayMany m_trays m_tape m_text m_opened m_beside m_then m_ways m_further m_canBe m_loops m_ran m_told0) := hD
  refine lv_lload_n hx hb dX7_givesLong_5 rfl (lv_at hl 1 rfl) ?_
  exact zr_ml hx hb hr hlocks hP hD hS dX7_givesLong_6 rfl rfl trivial
def mf_orNone (v : Int32) : Int32 × Int32 :=
  (if v = (-1) then
    ((-1), 6)
  else
    (v, 0))
theorem hd_X7_orNone : yX7_orNone.cls = RX7 ∧ yX7_orNone.cls ≠ "java/lang/invoke/MethodHandle" ∧ yX7_orNone.cls ≠ "java/lang/invoke/VarHandle" ∧ (parseMethodDescriptor yX7_orNone.desc).map (fun d => d.parameters.length) = some 1 := by decide +kernel
set_option maxHeartbeats 4000000 in
set_option maxRecDepth 100000 in
theorem mt_mf_orNone (l : Launch) (G : zG) (ad : Nat → Nat) (m_status : Int32) (m_top : Int64) (m_bottom : Int64) (m_taped : Int32) (m_size : Int32) (m_token : Int32) (m_from : Int32) (m_end : Int32) (m_value : Int32) (m_faultKind : Int32) (m_faultPlace : Int32) (m_faults : Int32) (m_seen : Int32) (m_depth : Int32) (m_counted : Int32) (m_lead : Int32) (m_round : Int32) (m_tried : Int32) (m_triedMany : Int32) (m_drawn : Int32) (m_ranSteps : Int32) (m_isTold : Bool) (m_marks : Int32) (m_at : Nat → Int32) (m_names : Nat → Int64) (m_sort : Nat → Int32) (m_trayMany : Nat → Int32) (m_trays : Nat → Int64) (m_tape : Nat → Int32) (m_text : Nat → Int32) (m_opened : Nat → Int32) (m_beside : Nat → Int32) (m_then : Nat → Int32) (m_ways : Nat → Int64) (m_further : Nat → Int64) (m_canBe : Nat → Int32) (m_loops : Nat → Int32) (m_ran : Nat → Int32) (m_told0 : Nat → Int32) (v : Int32) (sz : Nat) : Met l yX7_orNone (ws_ yX7_orNone cX7_orNone 2 (some .int)) (zR 2 0 0) (zPm G sz [.ref (ad 0), .int v] (mW G ad m_status m_top m_bottom m_taped m_size m_token m_from m_end m_value m_faultKind m_faultPlace m_faults m_seen m_depth m_counted m_lead m_round m_tried m_triedMany m_drawn m_ranSteps m_isTold m_marks m_at m_names m_sort m_trayMany m_trays m_tape m_text m_opened m_beside m_then m_ways m_further m_canBe m_loops m_ran m_told0)) (zQm G (True) (some (.int ((mf_orNone v).1))) (mW G ad ((mf_orNone v).2) m_top m_bottom m_taped m_size m_token m_from m_end m_value m_faultKind m_faultPlace m_faults m_seen m_depth m_counted m_lead m_round m_tried m_triedMany m_drawn m_ranSteps m_isTold m_marks m_at m_names m_sort m_trayMany m_trays m_tape m_text m_opened m_beside m_then m_ways m_further m_canBe m_loops m_ran m_told0) (va_A (mW G ad m_status m_top m_bottom m_taped m_size m_token m_from m_end m_value m_faultKind m_faultPlace m_faults m_seen m_depth m_counted m_lead m_round m_tried m_triedMany m_drawn m_ranSteps m_isTold m_marks m_at m_names m_sort m_trayMany m_trays m_tape m_text m_opened m_beside m_then m_ways m_further m_canBe m_loops m_ran m_told0) sz)) 0 0 (va_A (mW G ad m_status m_top m_bottom m_taped m_size m_token m_from m_end m_value m_faultKind m_faultPlace m_faults m_seen m_depth m_counted m_lead m_round m_tried m_triedMany m_drawn m_ranSteps m_isTold m_marks m_at m_names m_sort m_trayMany m_trays m_tape m_text m_opened m_beside m_then m_ways m_further m_canBe m_loops m_ran m_told0) sz) := by
  refine zr_entM (by decide) (Nat.le_of_ble_eq_true rfl) ?_
  intro p e s m below meth c ⟨hx, hb, hr, hml, hown, hts, hlocks, hnm⟩ ls hl hP hK A hE hA hD hS
  have hown : s.vm.findClass RX7 = some m.cls := hown
  have hl : lv_has ls 2 [(0, .ref (ad 0)), (1, .int v)] := hl
  obtain ⟨H, hH⟩ : ∃ H, H = s.heap := ⟨_, rfl⟩
  obtain ⟨locs, hlo⟩ : ∃ L : List Loc, L = [] := ⟨_, rfl⟩
  rw [← hH] at hP
  have hS : va_S A s.heap H locs := by rw [hH, hlo]; exact va_S.rf
  have hgo : W p l e (zR 2 0 0) s m ([.ref (ad 0), .int v] : List Value).toArray below meth c H locs 0 0 (MQ below (zQm G (True) (some (.int ((mf_orNone v).1))) (mW G ad ((mf_orNone v).2) m_top m_bottom m_taped m_size m_token m_from m_end m_value m_faultKind m_faultPlace m_faults m_seen m_depth m_counted m_lead m_round m_tried m_triedMany m_drawn m_ranSteps m_isTold m_marks m_at m_names m_sort m_trayMany m_trays m_tape m_text m_opened m_beside m_then m_ways m_further m_canBe m_loops m_ran m_told0) A) ([.ref (ad 0), .int v] : List Value).toArray s 0 0 A) (F0 m 0 ls []) := ?_
  · rw [hH, hlo] at hgo; exact hgo
  clear hH hlo
  refine lv_iload_n hx hb dX7_orNone_0 rfl (lv_at hl 1 rfl) ?_
  refine lv_iconst (v := (-1)) hx hb dX7_orNone_1 (by decide) ?_
  refine lv_icmp_ne (tgt := 14) hx hb dX7_orNone_2 (by decide) (fun c_1 => ?_) (fun c_1 => ?_)
  · refine lv_aload_n hx hb dX7_orNone_14 rfl (lv_at hl 0 rfl) ?_
    refine lv_iload_n hx hb dX7_orNone_15 rfl (lv_at hl 1 rfl) ?_
    refine zr_muV (F := ()) (ff := fun _ => True) (rr := fun _ => some (.int v)) (w1 := fun _ => (mW G ad 0 m_top m_bottom m_taped m_size m_token m_from m_end m_value m_faultKind m_faultPlace m_faults m_seen m_depth m_counted m_lead m_round m_tried m_triedMany m_drawn m_ranSteps m_isTold m_marks m_at m_names m_sort m_trayMany m_trays m_tape m_text m_opened m_beside m_then m_ways m_further m_canBe m_loops m_ran m_told0)) ⟨hx, hb, hml, hown, hts⟩ (mt_mf_gives l G ad m_status m_top m_bottom m_taped m_size m_token m_from m_end m_value m_faultKind m_faultPlace m_faults m_seen m_depth m_counted m_lead m_round m_tried m_triedMany m_drawn m_ranSteps m_isTold m_marks m_at m_names m_sort m_trayMany m_trays m_tape m_text m_opened m_beside m_then m_ways m_further m_canBe m_loops m_ran m_told0 v H.size) (cwV 1 hts (lw_V q1751 q1753 qs85 q144 q1754) rfl rfl rfl hd_X7_gives ⟨(Nat.le_of_ble_eq_true rfl), (Nat.le_of_ble_eq_true rfl)⟩) hP hD hS hA hK hE 0 7 rfl rfl rfl hl.1 rfl (Nat.le_of_ble_eq_true rfl) dX7_orNone_16 ⟨Nat.le_refl _, Nat.le_refl _⟩ (fun _ _ _ H locs hP hD hS _ => ?_)
    refine W.eq (g2 := F0 m 19 ls [.int v]) rfl ?_
    have e_ : mf_orNone v = (v, 0) := by rw [mf_orNone, if_neg c_1]
    exact zr_mi hx hb hr hlocks hP hD hS dX7_orNone_19 (by rw [e_])  (by rw [e_]) trivial
  · refine lv_aload_n hx hb dX7_orNone_5 rfl (lv_at hl 0 rfl) ?_
    refine lv_bipush (v := 6) hx hb dX7_orNone_6 (by decide) ?_
    refine zr_muV (F := ()) (ff := fun _ => True) (rr := fun _ => some (.int (-1))) (w1 := fun _ => (mW G ad 6 m_top m_bottom m_taped m_size m_token m_from m_end m_value m_faultKind m_faultPlace m_faults m_seen m_depth m_counted m_lead m_round m_tried m_triedMany m_drawn m_ranSteps m_isTold m_marks m_at m_names m_sort m_trayMany m_trays m_tape m_text m_opened m_beside m_then m_ways m_further m_canBe m_loops m_ran m_told0)) ⟨hx, hb, hml, hown, hts⟩ (mt_mf_refuse l G ad m_status m_top m_bottom m_taped m_size m_token m_from m_end m_value m_faultKind m_faultPlace m_faults m_seen m_depth m_counted m_lead m_round m_tried m_triedMany m_drawn m_ranSteps m_isTold m_marks m_at m_names m_sort m_trayMany m_trays m_tape m_text m_opened m_beside m_then m_ways m_further m_canBe m_loops m_ran m_told0 6 H.size) (cwV 1 hts (lw_V q1666 q1668 qs66 q144 q1669) rfl rfl rfl hd_X7_refuse ⟨(Nat.le_of_ble_eq_true rfl), (Nat.le_of_ble_eq_true rfl)⟩) hP hD hS hA hK hE 0 7 rfl rfl rfl hl.1 rfl (Nat.le_of_ble_eq_true rfl) dX7_orNone_8 ⟨Nat.le_refl _, Nat.le_refl _⟩ (fun _ _ _ H locs hP hD hS _ => ?_)
    refine W.eq (g2 := F0 m 11 ls [.int (-1)]) rfl ?_
    refine lv_goto (tgt := 19) hx hb dX7_orNone_11 (by decide) ?_
    have e_ : mf_orNone v = ((-1), 6) := by rw [mf_orNone, if_pos c_1]
    exact zr_mi hx hb hr hlocks hP hD hS dX7_orNone_19 (by rw [e_])  (by rw [e_]) trivial
def mf_isTray (tr : Int32) : Bool :=
  (if tr < 0 then
    false
  else
    (if 4 ≤ tr then
      false
    else
      true))
theorem hd_X7_isTray : True ∧ yX7_isTray.cls ≠ "java/lang/invoke/MethodHandle" ∧ yX7_isTray.cls ≠ "java/lang/invoke/VarHandle" ∧ (parseMethodDescriptor yX7_isTray.desc).map (fun d => d.parameters.length) = some 1 := by decide +kernel
set_option maxHeartbeats 4000000 in
set_option maxRecDepth 100000 in
theorem mt_mf_isTray (l : Launch) (tr : Int32) : Met l yX7_isTray (ws_ yX7_isTray cX7_isTray 1 (some .boolean)) (zR 1 0 0) (zPp [.int tr]) (k2_QcV (.int (zb (mf_isTray tr)))) 0 0 (fun _ => False) := by
  refine zr_entP (by decide) (Nat.le_of_ble_eq_true rfl) ?_
  intro p e s m below meth c ⟨hx, hb, hr, hml, hown, hts, hlocks, hnm⟩ ls hl
  have hown : s.vm.findClass RX7 = some m.cls := hown
  have hl : lv_has ls 1 [(0, .int tr)] := hl
  refine lv_iload_n hx hb dX7_isTray_0 rfl (lv_at hl 0 rfl) ?_
  refine lv_if_lt (tgt := 13) hx hb dX7_isTray_1 (by decide) (fun c_1 => ?_) (fun c_1 => ?_)
  · refine lv_iconst (v := 0) hx hb dX7_isTray_13 (by decide) ?_
    have e_ : mf_isTray tr = false := by rw [mf_isTray, if_pos c_1]
    exact zr_oz hx hb hr hlocks dX7_isTray_14 rfl (congrArg (fun z => Value.int (zb z)) e_)
  · refine lv_iload_n hx hb dX7_isTray_4 rfl (lv_at hl 0 rfl) ?_
    refine lv_iconst (v := 4) hx hb dX7_isTray_5 (by decide) ?_
    refine lv_icmp_ge (tgt := 13) hx hb dX7_isTray_6 (by decide) (fun c_2 => ?_) (fun c_2 => ?_)
    · refine lv_iconst (v := 0) hx hb dX7_isTray_13 (by decide) ?_
      have e_ : mf_isTray tr = false := by rw [mf_isTray, if_neg c_1, if_pos c_2]
      exact zr_oz hx hb hr hlocks dX7_isTray_14 rfl (congrArg (fun z => Value.int (zb z)) e_)
    · refine lv_iconst (v := 1) hx hb dX7_isTray_9 (by decide) ?_
      refine lv_goto (tgt := 14) hx hb dX7_isTray_10 (by decide) ?_
      have e_ : mf_isTray tr = true := by rw [mf_isTray, if_neg c_1, if_neg c_2]
      exact zr_oz hx hb hr hlocks dX7_isTray_14 rfl (congrArg (fun z => Value.int (zb z)) e_)
theorem isTray_t {tr : Int32} (h : mf_isTray tr = true) : ¬ tr < 0 ∧ tr.toNatClampNeg < 4 := by
  unfold mf_isTray at h
  by_cases h1 : tr < 0
  · rw [if_pos h1] at h; cases h
  · rw [if_neg h1] at h
    by_cases h2 : 4 ≤ tr
    · rw [if_pos h2] at h; cases h
    · exact ⟨h1, z_nge 4 (by decide) h1 h2⟩
def mf_cut (v : Int64) (so : Int32) : Int64 :=
  (if so = 0 then
    v.toInt32.toInt8.toInt32.toInt64
  else
    (if so = 1 then
      v.toInt32.toInt16.toInt32.toInt64
    else
      (if so = 2 then
        v.toInt32.toInt64
      else
        v)))
theorem hd_X7_cut : True ∧ yX7_cut.cls ≠ "java/lang/invoke/MethodHandle" ∧ yX7_cut.cls ≠ "java/lang/invoke/VarHandle" ∧ (parseMethodDescriptor yX7_cut.desc).map (fun d => d.parameters.length) = some 2 := by decide +kernel
set_option maxHeartbeats 4000000 in
set_option maxRecDepth 100000 in
theorem mt_mf_cut (l : Launch) (v : Int64) (so : Int32) : Met l yX7_cut (ws_ yX7_cut cX7_cut 3 (some .long)) (zR 1 0 0) (zPp [.long v, .int so]) (k2_QcV (.long (mf_cut v so))) 0 0 (fun _ => False) := by
  refine zr_entP (by decide) (Nat.le_of_ble_eq_true rfl) ?_
  intro p e s m below meth c ⟨hx, hb, hr, hml, hown, hts, hlocks, hnm⟩ ls hl
  have hown : s.vm.findClass RX7 = some m.cls := hown
  have hl : lv_has ls 3 [(0, .long v), (2, .int so)] := hl
  refine lv_iload_n hx hb dX7_cut_0 rfl (lv_at hl 1 rfl) ?_
  refine lv_if_ne (tgt := 11) hx hb dX7_cut_1 (by decide) (fun c_1 => ?_) (fun c_1 => ?_)
  · refine lv_iload_n hx hb dX7_cut_11 rfl (lv_at hl 1 rfl) ?_
    refine lv_iconst (v := 1) hx hb dX7_cut_12 (by decide) ?_
    refine lv_icmp_ne (tgt := 23) hx hb dX7_cut_13 (by decide) (fun c_2 => ?_) (fun c_2 => ?_)
    · refine lv_iload_n hx hb dX7_cut_23 rfl (lv_at hl 1 rfl) ?_
      refine lv_iconst (v := 2) hx hb dX7_cut_24 (by decide) ?_
      refine lv_icmp_ne (tgt := 34) hx hb dX7_cut_25 (by decide) (fun c_3 => ?_) (fun c_3 => ?_)
      · refine lv_lload_n hx hb dX7_cut_34 rfl (lv_at hl 0 rfl) ?_
        have e_ : mf_cut v so = v := by rw [mf_cut, if_neg c_1, if_neg c_2, if_neg c_3]
        exact zr_ol hx hb hr hlocks dX7_cut_35 (congrArg Value.long e_)
      · refine lv_lload_n hx hb dX7_cut_28 rfl (lv_at hl 0 rfl) ?_
        refine lv_l2i hx hb dX7_cut_29 rfl ?_
        refine lv_i2l hx hb dX7_cut_30 rfl ?_
        refine lv_goto (tgt := 35) hx hb dX7_cut_31 (by decide) ?_
        have e_ : mf_cut v so = v.toInt32.toInt64 := by rw [mf_cut, if_neg c_1, if_neg c_2, if_pos c_3]
        exact zr_ol hx hb hr hlocks dX7_cut_35 (congrArg Value.long e_)
    · refine lv_lload_n hx hb dX7_cut_16 rfl (lv_at hl 0 rfl) ?_
      refine lv_l2i hx hb dX7_cut_17 rfl ?_
      refine lv_i2s hx hb dX7_cut_18 rfl ?_
      refine lv_i2l hx hb dX7_cut_19 rfl ?_
      refine lv_goto (tgt := 35) hx hb dX7_cut_20 (by decide) ?_
      have e_ : mf_cut v so = v.toInt32.toInt16.toInt32.toInt64 := by rw [mf_cut, if_neg c_1, if_pos c_2]
      exact zr_ol hx hb hr hlocks dX7_cut_35 (congrArg Value.long e_)
  · refine lv_lload_n hx hb dX7_cut_4 rfl (lv_at hl 0 rfl) ?_
    refine lv_l2i hx hb dX7_cut_5 rfl ?_
    refine lv_i2b hx hb dX7_cut_6 rfl ?_
    refine lv_i2l hx hb dX7_cut_7 rfl ?_
    refine lv_goto (tgt := 35) hx hb dX7_cut_8 (by decide) ?_
    have e_ : mf_cut v so = v.toInt32.toInt8.toInt32.toInt64 := by rw [mf_cut, if_pos c_1]
    exact zr_ol hx hb hr hlocks dX7_cut_35 (congrArg Value.long e_)
def mf_isFrom (v : Int64) (lo : Int64) (hi : Int64) : Bool :=
  (if v < lo then
    false
  else
    (if hi < v then
      false
    else
      true))
theorem hd_X7_isFrom : True ∧ yX7_isFrom.cls ≠ "java/lang/invoke/MethodHandle" ∧ yX7_isFrom.cls ≠ "java/lang/invoke/VarHandle" ∧ (parseMethodDescriptor yX7_isFrom.desc).map (fun d => d.parameters.length) = some 3 := by decide +kernel
set_option maxHeartbeats 4000000 in
set_option maxRecDepth 100000 in
theorem mt_mf_isFrom (l : Launch) (v : Int64) (lo : Int64) (hi : Int64) : Met l yX7_isFrom (ws_ yX7_isFrom cX7_isFrom 6 (some .boolean)) (zR 1 0 0) (zPp [.long v, .long lo, .long hi]) (k2_QcV (.int (zb (mf_isFrom v lo hi)))) 0 0 (fun _ => False) := by
  refine zr_entP (by decide) (Nat.le_of_ble_eq_true rfl) ?_
  intro p e s m below meth c ⟨hx, hb, hr, hml, hown, hts, hlocks, hnm⟩ ls hl
  have hown : s.vm.findClass RX7 = some m.cls := hown
  have hl : lv_has ls 6 [(0, .long v), (2, .long lo), (4, .long hi)] := hl
  refine lv_lload_n hx hb dX7_isFrom_0 rfl (lv_at hl 0 rfl) ?_
  refine lv_lload_n hx hb dX7_isFrom_1 rfl (lv_at hl 1 rfl) ?_
  refine W.lcmp hx hb dX7_isFrom_2 ?_
  refine zr_llt (tgt := 17) hx hb dX7_isFrom_3 (by decide) (fun c_1 => ?_) (fun c_1 => ?_)
  · refine lv_iconst (v := 0) hx hb dX7_isFrom_17 (by decide) ?_
    have e_ : mf_isFrom v lo hi = false := by rw [mf_isFrom, if_pos c_1]
    exact zr_oz hx hb hr hlocks dX7_isFrom_18 rfl (congrArg (fun z => Value.int (zb z)) e_)
  · refine lv_lload_n hx hb dX7_isFrom_6 rfl (lv_at hl 0 rfl) ?_
    refine lv_lload hx hb dX7_isFrom_7 (lv_at hl 2 rfl) ?_
    refine W.lcmp hx hb dX7_isFrom_9 ?_
    refine zr_lgt (tgt := 17) hx hb dX7_isFrom_10 (by decide) (fun c_2 => ?_) (fun c_2 => ?_)
    · refine lv_iconst (v := 0) hx hb dX7_isFrom_17 (by decide) ?_
      have e_ : mf_isFrom v lo hi = false := by rw [mf_isFrom, if_neg c_1, if_pos c_2]
      exact zr_oz hx hb hr hlocks dX7_isFrom_18 rfl (congrArg (fun z => Value.int (zb z)) e_)
    · refine lv_iconst (v := 1) hx hb dX7_isFrom_13 (by decide) ?_
      refine lv_goto (tgt := 18) hx hb dX7_isFrom_14 (by decide) ?_
      have e_ : mf_isFrom v lo hi = true := by rw [mf_isFrom, if_neg c_1, if_neg c_2]
      exact zr_oz hx hb hr hlocks dX7_isFrom_18 rfl (congrArg (fun z => Value.int (zb z)) e_)
def mf_isSmall (ch : Int32) : Bool :=
  (if ch < 97 then
    false
  else
    (if 122 < ch then
      false
    else
      true))
theorem hd_X7_isSmall : True ∧ yX7_isSmall.cls ≠ "java/lang/invoke/MethodHandle" ∧ yX7_isSmall.cls ≠ "java/lang/invoke/VarHandle" ∧ (parseMethodDescriptor yX7_isSmall.desc).map (fun d => d.parameters.length) = some 1 := by decide +kernel
set_option maxHeartbeats 4000000 in
set_option maxRecDepth 100000 in
theorem mt_mf_isSmall (l : Launch) (ch : Int32) : Met l yX7_isSmall (ws_ yX7_isSmall cX7_isSmall 1 (some .boolean)) (zR 1 0 0) (zPp [.int ch]) (k2_QcV (.int (zb (mf_isSmall ch)))) 0 0 (fun _ => False) := by
  refine zr_entP (by decide) (Nat.le_of_ble_eq_true rfl) ?_
  intro p e s m below meth c ⟨hx, hb, hr, hml, hown, hts, hlocks, hnm⟩ ls hl
  have hown : s.vm.findClass RX7 = some m.cls := hown
  have hl : lv_has ls 1 [(0, .int ch)] := hl
  refine lv_iload_n hx hb dX7_isSmall_0 rfl (lv_at hl 0 rfl) ?_
  refine lv_bipush (v := 97) hx hb dX7_isSmall_1 (by decide) ?_
  refine lv_icmp_lt (tgt := 16) hx hb dX7_isSmall_3 (by decide) (fun c_1 => ?_) (fun c_1 => ?_)
  · refine lv_iconst (v := 0) hx hb dX7_isSmall_16 (by decide) ?_
    have e_ : mf_isSmall ch = false := by rw [mf_isSmall, if_pos c_1]
    exact zr_oz hx hb hr hlocks dX7_isSmall_17 rfl (congrArg (fun z => Value.int (zb z)) e_)
  · refine lv_iload_n hx hb dX7_isSmall_6 rfl (lv_at hl 0 rfl) ?_
    refine lv_bipush (v := 122) hx hb dX7_isSmall_7 (by decide) ?_
    refine lv_icmp_gt (tgt := 16) hx hb dX7_isSmall_9 (by decide) (fun c_2 => ?_) (fun c_2 => ?_)
    · refine lv_iconst (v := 0) hx hb dX7_isSmall_16 (by decide) ?_
      have e_ : mf_isSmall ch = false := by rw [mf_isSmall, if_neg c_1, if_pos c_2]
      exact zr_oz hx hb hr hlocks dX7_isSmall_17 rfl (congrArg (fun z => Value.int (zb z)) e_)
    · refine lv_iconst (v := 1) hx hb dX7_isSmall_12 (by decide) ?_
      refine lv_goto (tgt := 17) hx hb dX7_isSmall_13 (by decide) ?_
      have e_ : mf_isSmall ch = true := by rw [mf_isSmall, if_neg c_1, if_neg c_2]
      exact zr_oz hx hb hr hlocks dX7_isSmall_17 rfl (congrArg (fun z => Value.int (zb z)) e_)
def mf_isDigit (ch : Int32) : Bool :=
  (if ch < 48 then
    false
  else
    (if 57 < ch then
      false
    else
      true))
theorem hd_X7_isDigit : True ∧ yX7_isDigit.cls ≠ "java/lang/invoke/MethodHandle" ∧ yX7_isDigit.cls ≠ "java/lang/invoke/VarHandle" ∧ (parseMethodDescriptor yX7_isDigit.desc).map (fun d => d.parameters.length) = some 1 := by decide +kernel
set_option maxHeartbeats 4000000 in
set_option maxRecDepth 100000 in
theorem mt_mf_isDigit (l : Launch) (ch : Int32) : Met l yX7_isDigit (ws_ yX7_isDigit cX7_isDigit 1 (some .boolean)) (zR 1 0 0) (zPp [.int ch]) (k2_QcV (.int (zb (mf_isDigit ch)))) 0 0 (fun _ => False) := by
  refine zr_entP (by decide) (Nat.le_of_ble_eq_true rfl) ?_
  intro p e s m below meth c ⟨hx, hb, hr, hml, hown, hts, hlocks, hnm⟩ ls hl
  have hown : s.vm.findClass RX7 = some m.cls := hown
  have hl : lv_has ls 1 [(0, .int ch)] := hl
  refine lv_iload_n hx hb dX7_isDigit_0 rfl (lv_at hl 0 rfl) ?_
  refine lv_bipush (v := 48) hx hb dX7_isDigit_1 (by decide) ?_
  refine lv_icmp_lt (tgt := 16) hx hb dX7_isDigit_3 (by decide) (fun c_1 => ?_) (fun c_1 => ?_)
  · refine lv_iconst (v := 0) hx hb dX7_isDigit_16 (by decide) ?_
    have e_ : mf_isDigit ch = false := by rw [mf_isDigit, if_pos c_1]
    exact zr_oz hx hb hr hlocks dX7_isDigit_17 rfl (congrArg (fun z => Value.int (zb z)) e_)
  · refine lv_iload_n hx hb dX7_isDigit_6 rfl (lv_at hl 0 rfl) ?_
    refine lv_bipush (v := 57) hx hb dX7_isDigit_7 (by decide) ?_
    refine lv_icmp_gt (tgt := 16) hx hb dX7_isDigit_9 (by decide) (fun c_2 => ?_) (fun c_2 => ?_)
    · refine lv_iconst (v := 0) hx hb dX7_isDigit_16 (by decide) ?_
      have e_ : mf_isDigit ch = false := by rw [mf_isDigit, if_neg c_1, if_pos c_2]
      exact zr_oz hx hb hr hlocks dX7_isDigit_17 rfl (congrArg (fun z => Value.int (zb z)) e_)
    · refine lv_iconst (v := 1) hx hb dX7_isDigit_12 (by decide) ?_
      refine lv_goto (tgt := 17) hx hb dX7_isDigit_13 (by decide) ?_
      have e_ : mf_isDigit ch = true := by rw [mf_isDigit, if_neg c_1, if_neg c_2]
      exact zr_oz hx hb hr hlocks dX7_isDigit_17 rfl (congrArg (fun z => Value.int (zb z)) e_)
def mf_isLamp (ch : Int32) : Bool :=
  (if ch = 100 then
    true
  else
    (if ch = 108 then
      true
    else
      (if ch = 110 then
        true
      else
        (if ch = 119 then
          true
        else
          (if ch = 120 then
            true
          else
            false)))))
theorem hd_X7_isLamp : True ∧ yX7_isLamp.cls ≠ "java/lang/invoke/MethodHandle" ∧ yX7_isLamp.cls ≠ "java/lang/invoke/VarHandle" ∧ (parseMethodDescriptor yX7_isLamp.desc).map (fun d => d.parameters.length) = some 1 := by decide +kernel
set_option maxHeartbeats 4000000 in
set_option maxRecDepth 100000 in
theorem mt_mf_isLamp (l : Launch) (ch : Int32) : Met l yX7_isLamp (ws_ yX7_isLamp cX7_isLamp 1 (some .boolean)) (zR 1 0 0) (zPp [.int ch]) (k2_QcV (.int (zb (mf_isLamp ch)))) 0 0 (fun _ => False) := by
  refine zr_entP (by decide) (Nat.le_of_ble_eq_true rfl) ?_
  intro p e s m below meth c ⟨hx, hb, hr, hml, hown, hts, hlocks, hnm⟩ ls hl
  have hown : s.vm.findClass RX7 = some m.cls := hown
  have hl : lv_has ls 1 [(0, .int ch)] := hl
  refine lv_iload_n hx hb dX7_isLamp_0 rfl (lv_at hl 0 rfl) ?_
  refine lv_bipush (v := 100) hx hb dX7_isLamp_1 (by decide) ?_
  refine lv_icmp_eq (tgt := 30) hx hb dX7_isLamp_3 (by decide) (fun c_1 => ?_) (fun c_1 => ?_)
  · refine lv_iconst (v := 1) hx hb dX7_isLamp_30 (by decide) ?_
    refine lv_goto (tgt := 35) hx hb dX7_isLamp_31 (by decide) ?_
    have e_ : mf_isLamp ch = true := by rw [mf_isLamp, if_pos c_1]
    exact zr_oz hx hb hr hlocks dX7_isLamp_35 rfl (congrArg (fun z => Value.int (zb z)) e_)
  · refine lv_iload_n hx hb dX7_isLamp_6 rfl (lv_at hl 0 rfl) ?_
    refine lv_bipush (v := 108) hx hb dX7_isLamp_7 (by decide) ?_
    refine lv_icmp_eq (tgt := 30) hx hb dX7_isLamp_9 (by decide) (fun c_2 => ?_) (fun c_2 => ?_)
    · refine lv_iconst (v := 1) hx hb dX7_isLamp_30 (by decide) ?_
      refine lv_goto (tgt := 35) hx hb dX7_isLamp_31 (by decide) ?_
      have e_ : mf_isLamp ch = true := by rw [mf_isLamp, if_neg c_1, if_pos c_2]
      exact zr_oz hx hb hr hlocks dX7_isLamp_35 rfl (congrArg (fun z => Value.int (zb z)) e_)
    · refine lv_iload_n hx hb dX7_isLamp_12 rfl (lv_at hl 0 rfl) ?_
      refine lv_bipush (v := 110) hx hb dX7_isLamp_13 (by decide) ?_
      refine lv_icmp_eq (tgt := 30) hx hb dX7_isLamp_15 (by decide) (fun c_3 => ?_) (fun c_3 => ?_)
      · refine lv_iconst (v := 1) hx hb dX7_isLamp_30 (by decide) ?_
        refine lv_goto (tgt := 35) hx hb dX7_isLamp_31 (by decide) ?_
        have e_ : mf_isLamp ch = true := by rw [mf_isLamp, if_neg c_1, if_neg c_2, if_pos c_3]
        exact zr_oz hx hb hr hlocks dX7_isLamp_35 rfl (congrArg (fun z => Value.int (zb z)) e_)
      · refine lv_iload_n hx hb dX7_isLamp_18 rfl (lv_at hl 0 rfl) ?_
        refine lv_bipush (v := 119) hx hb dX7_isLamp_19 (by decide) ?_
        refine lv_icmp_eq (tgt := 30) hx hb dX7_isLamp_21 (by decide) (fun c_4 => ?_) (fun c_4 => ?_)
        · refine lv_iconst (v := 1) hx hb dX7_isLamp_30 (by decide) ?_
          refine lv_goto (tgt := 35) hx hb dX7_isLamp_31 (by decide) ?_
          have e_ : mf_isLamp ch = true := by rw [mf_isLamp, if_neg c_1, if_neg c_2, if_neg c_3, if_pos c_4]
          exact zr_oz hx hb hr hlocks dX7_isLamp_35 rfl (congrArg (fun z => Value.int (zb z)) e_)
        · refine lv_iload_n hx hb dX7_isLamp_24 rfl (lv_at hl 0 rfl) ?_
          refine lv_bipush (v := 120) hx hb dX7_isLamp_25 (by decide) ?_
          refine lv_icmp_ne (tgt := 34) hx hb dX7_isLamp_27 (by decide) (fun c_5 => ?_) (fun c_5 => ?_)
          · refine lv_iconst (v := 0) hx hb dX7_isLamp_34 (by decide) ?_
            have e_ : mf_isLamp ch = false := by rw [mf_isLamp, if_neg c_1, if_neg c_2, if_neg c_3, if_neg c_4, if_neg c_5]
            exact zr_oz hx hb hr hlocks dX7_isLamp_35 rfl (congrArg (fun z => Value.int (zb z)) e_)
          · refine lv_iconst (v := 1) hx hb dX7_isLamp_30 (by decide) ?_
            refine lv_goto (tgt := 35) hx hb dX7_isLamp_31 (by decide) ?_
            have e_ : mf_isLamp ch = true := by rw [mf_isLamp, if_neg c_1, if_neg c_2, if_neg c_3, if_neg c_4, if_pos c_5]
            exact zr_oz hx hb hr hlocks dX7_isLamp_35 rfl (congrArg (fun z => Value.int (zb z)) e_)
def mf_isSign (m_token : Int32) (m_value : Int32) (ch : Int32) : Bool :=
  (if m_token = 4 then
    (if m_value = ch then
      true
    else
      false)
  else
    false)
theorem hd_X7_isSign : yX7_isSign.cls = RX7 ∧ yX7_isSign.cls ≠ "java/lang/invoke/MethodHandle" ∧ yX7_isSign.cls ≠ "java/lang/invoke/VarHandle" ∧ (parseMethodDescriptor yX7_isSign.desc).map (fun d => d.parameters.length) = some 1 := by decide +kernel
set_option maxHeartbeats 4000000 in
set_option maxRecDepth 100000 in
theorem mt_mf_isSign (l : Launch) (G : zG) (ad : Nat → Nat) (m_status : Int32) (m_top : Int64) (m_bottom : Int64) (m_taped : Int32) (m_size : Int32) (m_token : Int32) (m_from : Int32) (m_end : Int32) (m_value : Int32) (m_faultKind : Int32) (m_faultPlace : Int32) (m_faults : Int32) (m_seen : Int32) (m_depth : Int32) (m_counted : Int32) (m_lead : Int32) (m_round : Int32) (m_tried : Int32) (m_triedMany : Int32) (m_drawn : Int32) (m_ranSteps : Int32) (m_isTold : Bool) (m_marks : Int32) (m_at : Nat → Int32) (m_names : Nat → Int64) (m_sort : Nat → Int32) (m_trayMany : Nat → Int32) (m_trays : Nat → Int64) (m_tape : Nat → Int32) (m_text : Nat → Int32) (m_opened : Nat → Int32) (m_beside : Nat → Int32) (m_then : Nat → Int32) (m_ways : Nat → Int64) (m_further : Nat → Int64) (m_canBe : Nat → Int32) (m_loops : Nat → Int32) (m_ran : Nat → Int32) (m_told0 : Nat → Int32) (ch : Int32) : Met l yX7_isSign (ws_ yX7_isSign cX7_isSign 2 (some .boolean)) (zR 1 0 0) (zPo G [.ref (ad 0), .int ch] (mW G ad m_status m_top m_bottom m_taped m_size m_token m_from m_end m_value m_faultKind m_faultPlace m_faults m_seen m_depth m_counted m_lead m_round m_tried m_triedMany m_drawn m_ranSteps m_isTold m_marks m_at m_names m_sort m_trayMany m_trays m_tape m_text m_opened m_beside m_then m_ways m_further m_canBe m_loops m_ran m_told0)) (k2_QcV (.int (zb (mf_isSign m_token m_value ch)))) 0 0 (fun _ => False) := by
  refine zr_entO (by decide) (Nat.le_of_ble_eq_true rfl) ?_
  intro p e s m below meth c ⟨hx, hb, hr, hml, hown, hts, hlocks, hnm⟩ ls hl hP hK hE
  have hown : s.vm.findClass RX7 = some m.cls := hown
  have hl : lv_has ls 2 [(0, .ref (ad 0)), (1, .int ch)] := hl
  refine lv_aload_n hx hb dX7_isSign_0 rfl (lv_at hl 0 rfl) ?_
  refine va_get (D := G.1) (ci := 7) (v := .int m_token) (C := RX7) (T := TX7) (N := 39) hx hb hts in_X7 hown hK.1 hP 0 rfl rfl 12 (Nat.le_of_ble_eq_true rfl) (hts _ q1479) (fun _ h => h) rfl dX7_isSign_1 ?_
  refine lv_iconst (v := 4) hx hb dX7_isSign_4 (by decide) ?_
  refine lv_icmp_ne (tgt := 20) hx hb dX7_isSign_5 (by decide) (fun c_1 => ?_) (fun c_1 => ?_)
  · refine lv_iconst (v := 0) hx hb dX7_isSign_20 (by decide) ?_
    have e_ : mf_isSign m_token m_value ch = false := by rw [mf_isSign, if_neg c_1]
    exact zr_oz hx hb hr hlocks dX7_isSign_21 rfl (congrArg (fun z => Value.int (zb z)) e_)
  · refine lv_aload_n hx hb dX7_isSign_8 rfl (lv_at hl 0 rfl) ?_
    refine va_get (D := G.1) (ci := 7) (v := .int m_value) (C := RX7) (T := TX7) (N := 39) hx hb hts in_X7 hown hK.1 hP 0 rfl rfl 15 (Nat.le_of_ble_eq_true rfl) (hts _ q1482) (fun _ h => h) rfl dX7_isSign_9 ?_
    refine lv_iload_n hx hb dX7_isSign_12 rfl (lv_at hl 1 rfl) ?_
    refine lv_icmp_ne (tgt := 20) hx hb dX7_isSign_13 (by decide) (fun c_2 => ?_) (fun c_2 => ?_)
    · refine lv_iconst (v := 0) hx hb dX7_isSign_20 (by decide) ?_
      have e_ : mf_isSign m_token m_value ch = false := by rw [mf_isSign, if_pos c_1, if_neg c_2]
      exact zr_oz hx hb hr hlocks dX7_isSign_21 rfl (congrArg (fun z => Value.int (zb z)) e_)
    · refine lv_iconst (v := 1) hx hb dX7_isSign_16 (by decide) ?_
      refine lv_goto (tgt := 21) hx hb dX7_isSign_17 (by decide) ?_
      have e_ : mf_isSign m_token m_value ch = true := by rw [mf_isSign, if_pos c_1, if_pos c_2]
      exact zr_oz hx hb hr hlocks dX7_isSign_21 rfl (congrArg (fun z => Value.int (zb z)) e_)
def mf_fault (m_faultKind : Int32) (m_faultPlace : Int32) (what : Int32) : Int32 :=
  (if what = 0 then
    m_faultKind
  else
    (if what = 1 then
      m_faultPlace
    else
      (-1)))
theorem hd_X7_fault : yX7_fault.cls = RX7 ∧ yX7_fault.cls ≠ "java/lang/invoke/MethodHandle" ∧ yX7_fault.cls ≠ "java/lang/invoke/VarHandle" ∧ (parseMethodDescriptor yX7_fault.desc).map (fun d => d.parameters.length) = some 1 := by decide +kernel
set_option maxHeartbeats 4000000 in
set_option maxRecDepth 100000 in
theorem mt_mf_fault (l : Launch) (G : zG) (ad : Nat → Nat) (m_status : Int32) (m_top : Int64) (m_bottom : Int64) (m_taped : Int32) (m_size : Int32) (m_token : Int32) (m_from : Int32) (m_end : Int32) (m_value : Int32) (m_faultKind : Int32) (m_faultPlace : Int32) (m_faults : Int32) (m_seen : Int32) (m_depth : Int32) (m_counted : Int32) (m_lead : Int32) (m_round : Int32) (m_tried : Int32) (m_triedMany : Int32) (m_drawn : Int32) (m_ranSteps : Int32) (m_isTold : Bool) (m_marks : Int32) (m_at : Nat → Int32) (m_names : Nat → Int64) (m_sort : Nat → Int32) (m_trayMany : Nat → Int32) (m_trays : Nat → Int64) (m_tape : Nat → Int32) (m_text : Nat → Int32) (m_opened : Nat → Int32) (m_beside : Nat → Int32) (m_then : Nat → Int32) (m_ways : Nat → Int64) (m_further : Nat → Int64) (m_canBe : Nat → Int32) (m_loops : Nat → Int32) (m_ran : Nat → Int32) (m_told0 : Nat → Int32) (what : Int32) : Met l yX7_fault (ws_ yX7_fault cX7_fault 2 (some .int)) (zR 1 0 0) (zPo G [.ref (ad 0), .int what] (mW G ad m_status m_top m_bottom m_taped m_size m_token m_from m_end m_value m_faultKind m_faultPlace m_faults m_seen m_depth m_counted m_lead m_round m_tried m_triedMany m_drawn m_ranSteps m_isTold m_marks m_at m_names m_sort m_trayMany m_trays m_tape m_text m_opened m_beside m_then m_ways m_further m_canBe m_loops m_ran m_told0)) (k2_QcV (.int (mf_fault m_faultKind m_faultPlace what))) 0 0 (fun _ => False) := by
  refine zr_entO (by decide) (Nat.le_of_ble_eq_true rfl) ?_
  intro p e s m below meth c ⟨hx, hb, hr, hml, hown, hts, hlocks, hnm⟩ ls hl hP hK hE
  have hown : s.vm.findClass RX7 = some m.cls := hown
  have hl : lv_has ls 2 [(0, .ref (ad 0)), (1, .int what)] := hl
  refine lv_iload_n hx hb dX7_fault_0 rfl (lv_at hl 1 rfl) ?_
  refine lv_if_ne (tgt := 11) hx hb dX7_fault_1 (by decide) (fun c_1 => ?_) (fun c_1 => ?_)
  · refine lv_iload_n hx hb dX7_fault_11 rfl (lv_at hl 1 rfl) ?_
    refine lv_iconst (v := 1) hx hb dX7_fault_12 (by decide) ?_
    refine lv_icmp_ne (tgt := 23) hx hb dX7_fault_13 (by decide) (fun c_2 => ?_) (fun c_2 => ?_)
    · refine lv_iconst (v := (-1)) hx hb dX7_fault_23 (by decide) ?_
      have e_ : mf_fault m_faultKind m_faultPlace what = (-1) := by rw [mf_fault, if_neg c_1, if_neg c_2]
      exact zr_oi hx hb hr hlocks dX7_fault_24 (congrArg Value.int e_)
    · refine lv_aload_n hx hb dX7_fault_16 rfl (lv_at hl 0 rfl) ?_
      refine va_get (D := G.1) (ci := 7) (v := .int m_faultPlace) (C := RX7) (T := TX7) (N := 39) hx hb hts in_X7 hown hK.1 hP 0 rfl rfl 17 (Nat.le_of_ble_eq_true rfl) (hts _ q1484) (fun _ h => h) rfl dX7_fault_17 ?_
      refine lv_goto (tgt := 24) hx hb dX7_fault_20 (by decide) ?_
      have e_ : mf_fault m_faultKind m_faultPlace what = m_faultPlace := by rw [mf_fault, if_neg c_1, if_pos c_2]
      exact zr_oi hx hb hr hlocks dX7_fault_24 (congrArg Value.int e_)
  · refine lv_aload_n hx hb dX7_fault_4 rfl (lv_at hl 0 rfl) ?_
    refine va_get (D := G.1) (ci := 7) (v := .int m_faultKind) (C := RX7) (T := TX7) (N := 39) hx hb hts in_X7 hown hK.1 hP 0 rfl rfl 16 (Nat.le_of_ble_eq_true rfl) (hts _ q1483) (fun _ h => h) rfl dX7_fault_5 ?_
    refine lv_goto (tgt := 24) hx hb dX7_fault_8 (by decide) ?_
    have e_ : mf_fault m_faultKind m_faultPlace what = m_faultKind := by rw [mf_fault, if_pos c_1]
    exact zr_oi hx hb hr hlocks dX7_fault_24 (congrArg Value.int e_)
def mf_picture (m_at : Nat → Int32) : Int64 × Int32 :=
  ((m_at 3).toInt64, 0)
theorem hd_X7_picture : yX7_picture.cls = RX7 ∧ yX7_picture.cls ≠ "java/lang/invoke/MethodHandle" ∧ yX7_picture.cls ≠ "java/lang/invoke/VarHandle" ∧ (parseMethodDescriptor yX7_picture.desc).map (fun d => d.parameters.length) = some 0 := by decide +kernel
set_option maxHeartbeats 4000000 in
set_option maxRecDepth 100000 in
theorem mt_mf_picture (l : Launch) (G : zG) (ad : Nat → Nat) (m_status : Int32) (m_top : Int64) (m_bottom : Int64) (m_taped : Int32) (m_size : Int32) (m_token : Int32) (m_from : Int32) (m_end : Int32) (m_value : Int32) (m_faultKind : Int32) (m_faultPlace : Int32) (m_faults : Int32) (m_seen : Int32) (m_depth : Int32) (m_counted : Int32) (m_lead : Int32) (m_round : Int32) (m_tried : Int32) (m_triedMany : Int32) (m_drawn : Int32) (m_ranSteps : Int32) (m_isTold : Bool) (m_marks : Int32) (m_at : Nat → Int32) (m_names : Nat → Int64) (m_sort : Nat → Int32) (m_trayMany : Nat → Int32) (m_trays : Nat → Int64) (m_tape : Nat → Int32) (m_text : Nat → Int32) (m_opened : Nat → Int32) (m_beside : Nat → Int32) (m_then : Nat → Int32) (m_ways : Nat → Int64) (m_further : Nat → Int64) (m_canBe : Nat → Int32) (m_loops : Nat → Int32) (m_ran : Nat → Int32) (m_told0 : Nat → Int32) (sz : Nat) : Met l yX7_picture (ws_ yX7_picture cX7_picture 1 (some .long)) (zR 2 0 0) (zPm G sz [.ref (ad 0)] (mW G ad m_status m_top m_bottom m_taped m_size m_token m_from m_end m_value m_faultKind m_faultPlace m_faults m_seen m_depth m_counted m_lead m_round m_tried m_triedMany m_drawn m_ranSteps m_isTold m_marks m_at m_names m_sort m_trayMany m_trays m_tape m_text m_opened m_beside m_then m_ways m_further m_canBe m_loops m_ran m_told0)) (zQm G (True) (some (.long ((mf_picture m_at).1))) (mW G ad ((mf_picture m_at).2) m_top m_bottom m_taped m_size m_token m_from m_end m_value m_faultKind m_faultPlace m_faults m_seen m_depth m_counted m_lead m_round m_tried m_triedMany m_drawn m_ranSteps m_isTold m_marks m_at m_names m_sort m_trayMany m_trays m_tape m_text m_opened m_beside m_then m_ways m_further m_canBe m_loops m_ran m_told0) (va_A (mW G ad m_status m_top m_bottom m_taped m_size m_token m_from m_end m_value m_faultKind m_faultPlace m_faults m_seen m_depth m_counted m_lead m_round m_tried m_triedMany m_drawn m_ranSteps m_isTold m_marks m_at m_names m_sort m_trayMany m_trays m_tape m_text m_opened m_beside m_then m_ways m_further m_canBe m_loops m_ran m_told0) sz)) 0 0 (va_A (mW G ad m_status m_top m_bottom m_taped m_size m_token m_from m_end m_value m_faultKind m_faultPlace m_faults m_seen m_depth m_counted m_lead m_round m_tried m_triedMany m_drawn m_ranSteps m_isTold m_marks m_at m_names m_sort m_trayMany m_trays m_tape m_text m_opened m_beside m_then m_ways m_further m_canBe m_loops m_ran m_told0) sz) := by
  refine zr_entM (by decide) (Nat.le_of_ble_eq_true rfl) ?_
  intro p e s m below meth c ⟨hx, hb, hr, hml, hown, hts, hlocks, hnm⟩ ls hl hP hK A hE hA hD hS
  have hown : s.vm.findClass RX7 = some m.cls := hown
  have hl : lv_has ls 1 [(0, .ref (ad 0))] := hl
  obtain ⟨H, hH⟩ : ∃ H, H = s.heap := ⟨_, rfl⟩
  obtain ⟨locs, hlo⟩ : ∃ L : List Loc, L = [] := ⟨_, rfl⟩
  rw [← hH] at hP
  have hS : va_S A s.heap H locs := by rw [hH, hlo]; exact va_S.rf
  have hgo : W p l e (zR 2 0 0) s m ([.ref (ad 0)] : List Value).toArray below meth c H locs 0 0 (MQ below (zQm G (True) (some (.long ((mf_picture m_at).1))) (mW G ad ((mf_picture m_at).2) m_top m_bottom m_taped m_size m_token m_from m_end m_value m_faultKind m_faultPlace m_faults m_seen m_depth m_counted m_lead m_round m_tried m_triedMany m_drawn m_ranSteps m_isTold m_marks m_at m_names m_sort m_trayMany m_trays m_tape m_text m_opened m_beside m_then m_ways m_further m_canBe m_loops m_ran m_told0) A) ([.ref (ad 0)] : List Value).toArray s 0 0 A) (F0 m 0 ls []) := ?_
  · rw [hH, hlo] at hgo; exact hgo
  clear hH hlo
  refine lv_aload_n hx hb dX7_picture_0 rfl (lv_at hl 0 rfl) ?_
  refine lv_aload_n hx hb dX7_picture_1 rfl (lv_at hl 0 rfl) ?_
  refine va_get (D := G.1) (ci := 7) (v := .ref (ad 1)) (C := RX7) (T := TX7) (N := 39) hx hb hts in_X7 hown hK.1 hP 0 rfl rfl 0 (Nat.le_of_ble_eq_true rfl) (hts _ q1467) (fun _ h => h) rfl dX7_picture_2 ?_
  refine lv_iconst (v := 3) hx hb dX7_picture_5 (by decide) ?_
  refine zr_iald 3 (v := m_at 3) hx hb hK hP 1 rfl rfl (Nat.le_of_ble_eq_true rfl) rfl (by decide) rfl dX7_picture_6 ?_
  refine lv_i2l hx hb dX7_picture_7 rfl ?_
  refine zr_muV (F := ()) (ff := fun _ => True) (rr := fun _ => some (.long ((m_at 3).toInt64))) (w1 := fun _ => (mW G ad 0 m_top m_bottom m_taped m_size m_token m_from m_end m_value m_faultKind m_faultPlace m_faults m_seen m_depth m_counted m_lead m_round m_tried m_triedMany m_drawn m_ranSteps m_isTold m_marks m_at m_names m_sort m_trayMany m_trays m_tape m_text m_opened m_beside m_then m_ways m_further m_canBe m_loops m_ran m_told0)) ⟨hx, hb, hml, hown, hts⟩ (mt_mf_givesLong l G ad m_status m_top m_bottom m_taped m_size m_token m_from m_end m_value m_faultKind m_faultPlace m_faults m_seen m_depth m_counted m_lead m_round m_tried m_triedMany m_drawn m_ranSteps m_isTold m_marks m_at m_names m_sort m_trayMany m_trays m_tape m_text m_opened m_beside m_then m_ways m_further m_canBe m_loops m_ran m_told0 ((m_at 3).toInt64) H.size) (cwV 1 hts (lw_V q1791 q1793 qs92 q144 q1794) rfl rfl rfl hd_X7_givesLong ⟨(Nat.le_of_ble_eq_true rfl), (Nat.le_of_ble_eq_true rfl)⟩) hP hD hS hA hK hE 0 7 rfl rfl rfl hl.1 rfl (Nat.le_of_ble_eq_true rfl) dX7_picture_8 ⟨Nat.le_refl _, Nat.le_refl _⟩ (fun _ _ _ H locs hP hD hS _ => ?_)
  refine W.eq (g2 := F0 m 11 ls [.long ((m_at 3).toInt64)]) rfl ?_
  have e_ : mf_picture m_at = ((m_at 3).toInt64, 0) := by rw [mf_picture]
  exact zr_ml hx hb hr hlocks hP hD hS dX7_picture_11 (by rw [e_])  (by rw [e_]) trivial
def mf_bits_B4 (set_ : Int32) (s_1 : Int32 × Nat) : (Int32 × Nat) ⊕ (Int32 × Nat) :=
  (if s_1.1 = 0 then
    .inr (s_1.1, s_1.2)
  else
    .inl (s_1.1 &&& (s_1.1 - 1), s_1.2 + 1))
def mf_bits_L4 (set_ : Int32) (s_1 : Int32 × Nat) : Int32 × Nat := zw (mf_bits_B4 set_) (s_1) ((zpc s_1.1) + 1) s_1
def mf_bits (set_ : Int32) : Nat :=
  zlet (mf_bits_L4 set_ (set_, 0)) (fun t_1 =>
  t_1.2)
theorem hd_X7_bits : True ∧ yX7_bits.cls ≠ "java/lang/invoke/MethodHandle" ∧ yX7_bits.cls ≠ "java/lang/invoke/VarHandle" ∧ (parseMethodDescriptor yX7_bits.desc).map (fun d => d.parameters.length) = some 1 := by decide +kernel
set_option maxHeartbeats 4000000 in
set_option maxRecDepth 100000 in
theorem mt_mf_bits (l : Launch) (set_ : Int32) : Met l yX7_bits (ws_ yX7_bits cX7_bits 3 (some .int)) (zR 1 0 0) (zPp [.int set_]) (k2_QcV (.int (nI (mf_bits set_)))) 0 0 (fun _ => False) := by
  refine zr_entP (by decide) (Nat.le_of_ble_eq_true rfl) ?_
  intro p e s m below meth c ⟨hx, hb, hr, hml, hown, hts, hlocks, hnm⟩ ls hl
  have hown : s.vm.findClass RX7 = some m.cls := hown
  have hl : lv_has ls 3 [(0, .int set_)] := hl
  refine lv_iconst (v := 0) hx hb dX7_bits_0 (by decide) ?_
  refine lv_istore_n (lv' := [(1, .int 0), (0, .int set_)]) hx hb dX7_bits_1 rfl hl (by decide) rfl (fun ls hl => ?_)
  refine lv_iload_n hx hb dX7_bits_2 rfl (lv_at hl 1 rfl) ?_
  refine lv_istore_n (lv' := [(2, .int set_), (1, .int 0), (0, .int set_)]) hx hb dX7_bits_3 rfl hl (by decide) rfl (fun ls hl => ?_)
  have hx_1 : ∀ t_1 : Int32 × Nat, mf_bits_L4 set_ (set_, 0) = t_1 → ∀ ls : Array Slot, lv_has ls 3 [(1, .int (nI t_1.2))] → W p l e (zR 1 0 0) s m ([.int set_] : List Value).toArray below meth c s.heap [] 0 0 (MQ below (k2_QcV (.int (nI (mf_bits set_)))) ([.int set_] : List Value).toArray s 0 0 (fun _ => False)) (F0 m 20 ls []) := by
    intro t_1 ht_1 ls hl
    refine lv_iload_n hx hb dX7_bits_20 rfl (lv_at hl 0 rfl) ?_
    have e_ : mf_bits set_ = t_1.2 := by rw [mf_bits, zlet_eq ht_1]
    exact zr_oi hx hb hr hlocks dX7_bits_21 (congrArg (fun z => Value.int (nI z)) e_)
  have hlp_1 : ∀ (n : Nat) (s_1 : Int32 × Nat), zpc s_1.1 < n → zw (mf_bits_B4 set_) (set_, 0) n s_1 = mf_bits_L4 set_ (set_, 0) → ∀ ls : Array Slot, lv_has ls 3 [(2, .int s_1.1), (1, .int (nI s_1.2))] → W p l e (zR 1 0 0) s m ([.int set_] : List Value).toArray below meth c s.heap [] 0 0 (MQ below (k2_QcV (.int (nI (mf_bits set_)))) ([.int set_] : List Value).toArray s 0 0 (fun _ => False)) (F0 m 4 ls []) := by
    intro n
    induction n with
    | zero => exact fun _ h => absurd h (Nat.not_lt_zero _)
    | succ n ih_1 =>
      intro s_1 hmu_1 hR_1 ls hl
      refine lv_iload_n hx hb dX7_bits_4 rfl (lv_at hl 0 rfl) ?_
      refine lv_if_eq (tgt := 20) hx hb dX7_bits_5 (by decide) (fun c_2 => ?_) (fun c_2 => ?_)
      · exact hx_1 (s_1.1, s_1.2) (hR_1.symm.trans (zw_r (by rw [mf_bits_B4, if_pos c_2]))) ls (lv_sub hl [1] rfl)
      · refine lv_iinc (v := nI (s_1.2 + 1)) (lv' := [(1, .int (nI (s_1.2 + 1))), (2, .int s_1.1)]) hx hb dX7_bits_8 hl (k := 1) rfl (nI_add s_1.2 1) (by decide) rfl (fun ls hl => ?_)
        refine lv_iload_n hx hb dX7_bits_11 rfl (lv_at hl 1 rfl) ?_
        refine lv_iload_n hx hb dX7_bits_12 rfl (lv_at hl 1 rfl) ?_
        refine lv_iconst (v := 1) hx hb dX7_bits_13 (by decide) ?_
        refine lv_isub hx hb dX7_bits_14 ?_
        refine lv_iand hx hb dX7_bits_15 ?_
        refine lv_istore_n (lv' := [(2, .int (s_1.1 &&& (s_1.1 - 1))), (1, .int (nI (s_1.2 + 1)))]) hx hb dX7_bits_16 rfl hl (by decide) rfl (fun ls hl => ?_)
        refine lv_goto (tgt := 4) hx hb dX7_bits_17 (by decide) ?_
        exact ih_1 (s_1.1 &&& (s_1.1 - 1), s_1.2 + 1) (zpc_lt (by assumption) hmu_1) ((zw_l (by rw [mf_bits_B4, if_neg c_2])).symm.trans hR_1) ls (lv_sub hl [0, 1] rfl)
  exact hlp_1 _ (set_, 0) (Nat.lt_succ_self _) (by rw [mf_bits_L4]) ls (lv_sub hl [0, 1] rfl)
theorem mf_bits_eq (x : Int32) : mf_bits x = zpc x := by
  have key : ∀ n (s : Int32 × Nat), zpc s.1 < n → (zw (mf_bits_B4 x) (x, 0) n s).2 = s.2 + zpc s.1 := by
    intro n
    induction n with
    | zero => intro s h; exact absurd h (Nat.not_lt_zero _)
    | succ n ih =>
      intro s h
      by_cases c : s.1 = 0
      · rw [zw_r (show mf_bits_B4 x s = .inr (s.1, s.2) by rw [mf_bits_B4, if_pos c]), c, zpc_0, Nat.add_zero]
      · rw [zw_l (show mf_bits_B4 x s = .inl (s.1 &&& (s.1 - 1), s.2 + 1) by rw [mf_bits_B4, if_neg c]), ih _ (zpc_lt c h)]
        have := zpc_clear c
        show s.2 + 1 + zpc (s.1 &&& (s.1 - 1)) = _
        omega
  have h := key (zpc x + 1) (x, 0) (Nat.lt_succ_self _)
  exact h.trans (Nat.zero_add _)
theorem mt_bitsN (l : Launch) (set_ : Int32) : Met l yX7_bits (ws_ yX7_bits cX7_bits 3 (some .int)) (zR 1 0 0) (zPp [.int set_]) (k2_QcV (.int (nI (zpc set_)))) 0 0 (fun _ => False) := by
  rw [← mf_bits_eq]; exact mt_mf_bits l set_
theorem hd_X7_places : yX7_places.cls = RX7 ∧ yX7_places.cls ≠ "java/lang/invoke/MethodHandle" ∧ yX7_places.cls ≠ "java/lang/invoke/VarHandle" ∧ (parseMethodDescriptor yX7_places.desc).map (fun d => d.parameters.length) = some 0 := by decide +kernel
set_option maxHeartbeats 4000000 in
set_option maxRecDepth 100000 in
theorem mt_mf_places (l : Launch) (G : zG) (ad : Nat → Nat) (m_status : Int32) (m_top : Int64) (m_bottom : Int64) (m_taped : Int32) (m_size : Int32) (m_token : Int32) (m_from : Int32) (m_end : Int32) (m_value : Int32) (m_faultKind : Int32) (m_faultPlace : Int32) (m_faults : Int32) (m_seen : Int32) (m_depth : Int32) (m_counted : Int32) (m_lead : Int32) (m_round : Int32) (m_tried : Int32) (m_triedMany : Int32) (m_drawn : Int32) (m_ranSteps : Int32) (m_isTold : Bool) (m_marks : Int32) (m_at : Nat → Int32) (m_names : Nat → Int64) (m_sort : Nat → Int32) (m_trayMany : Nat → Int32) (m_trays : Nat → Int64) (m_tape : Nat → Int32) (m_text : Nat → Int32) (m_opened : Nat → Int32) (m_beside : Nat → Int32) (m_then : Nat → Int32) (m_ways : Nat → Int64) (m_further : Nat → Int64) (m_canBe : Nat → Int32) (m_loops : Nat → Int32) (m_ran : Nat → Int32) (m_told0 : Nat → Int32) (Wd : Nat) (R : Nat) (nr : Nat) (nc : Nat) (hG : mOK m_at Wd R nr nc) : Met l yX7_places (ws_ yX7_places cX7_places 1 (some .int)) (zR 1 0 0) (zPo G [.ref (ad 0)] (mW G ad m_status m_top m_bottom m_taped m_size m_token m_from m_end m_value m_faultKind m_faultPlace m_faults m_seen m_depth m_counted m_lead m_round m_tried m_triedMany m_drawn m_ranSteps m_isTold m_marks m_at m_names m_sort m_trayMany m_trays m_tape m_text m_opened m_beside m_then m_ways m_further m_canBe m_loops m_ran m_told0)) (k2_QcV (.int (nI (Wd * R)))) 0 0 (fun _ => False) := by
  refine zr_entO (by decide) (Nat.le_of_ble_eq_true rfl) ?_
  intro p e s m below meth c ⟨hx, hb, hr, hml, hown, hts, hlocks, hnm⟩ ls hl hP hK hE
  have hown : s.vm.findClass RX7 = some m.cls := hown
  have hl : lv_has ls 1 [(0, .ref (ad 0))] := hl
  have hWR := mOK_WR hG
  have hW0 := mOK_W0 hG
  have hW5 := mOK_W5 hG
  have hR0 := mOK_R0 hG
  have hR6 := mOK_R6 hG
  have hn4 := mOK_n4 hG
  have hc6 := mOK_c6 hG
  refine lv_aload_n hx hb dX7_places_0 rfl (lv_at hl 0 rfl) ?_
  refine va_get (D := G.1) (ci := 7) (v := .ref (ad 1)) (C := RX7) (T := TX7) (N := 39) hx hb hts in_X7 hown hK.1 hP 0 rfl rfl 0 (Nat.le_of_ble_eq_true rfl) (hts _ q1467) (fun _ h => h) rfl dX7_places_1 ?_
  refine lv_iconst (v := 0) hx hb dX7_places_4 (by decide) ?_
  refine zr_iald 0 (v := nI Wd) hx hb hK hP 1 rfl rfl (Nat.le_of_ble_eq_true rfl) rfl (by decide) (mOK_w hG) dX7_places_5 ?_
  refine lv_aload_n hx hb dX7_places_6 rfl (lv_at hl 0 rfl) ?_
  refine va_get (D := G.1) (ci := 7) (v := .ref (ad 1)) (C := RX7) (T := TX7) (N := 39) hx hb hts in_X7 hown hK.1 hP 0 rfl rfl 0 (Nat.le_of_ble_eq_true rfl) (hts _ q1467) (fun _ h => h) rfl dX7_places_7 ?_
  refine lv_iconst (v := 1) hx hb dX7_places_10 (by decide) ?_
  refine zr_iald 1 (v := nI R) hx hb hK hP 1 rfl rfl (Nat.le_of_ble_eq_true rfl) rfl (by decide) (mOK_r hG) dX7_places_11 ?_
  refine zr_imulN Wd R hx hb dX7_places_12 ?_
  exact zr_oi hx hb hr hlocks dX7_places_13 rfl
def mf_free (m_at : Nat → Int32) : Int32 :=
  ((m_at 2) &&& ((m_at 4) ^^^ (-1)))
theorem hd_X7_free : yX7_free.cls = RX7 ∧ yX7_free.cls ≠ "java/lang/invoke/MethodHandle" ∧ yX7_free.cls ≠ "java/lang/invoke/VarHandle" ∧ (parseMethodDescriptor yX7_free.desc).map (fun d => d.parameters.length) = some 0 := by decide +kernel
set_option maxHeartbeats 4000000 in
set_option maxRecDepth 100000 in
theorem mt_mf_free (l : Launch) (G : zG) (ad : Nat → Nat) (m_status : Int32) (m_top : Int64) (m_bottom : Int64) (m_taped : Int32) (m_size : Int32) (m_token : Int32) (m_from : Int32) (m_end : Int32) (m_value : Int32) (m_faultKind : Int32) (m_faultPlace : Int32) (m_faults : Int32) (m_seen : Int32) (m_depth : Int32) (m_counted : Int32) (m_lead : Int32) (m_round : Int32) (m_tried : Int32) (m_triedMany : Int32) (m_drawn : Int32) (m_ranSteps : Int32) (m_isTold : Bool) (m_marks : Int32) (m_at : Nat → Int32) (m_names : Nat → Int64) (m_sort : Nat → Int32) (m_trayMany : Nat → Int32) (m_trays : Nat → Int64) (m_tape : Nat → Int32) (m_text : Nat → Int32) (m_opened : Nat → Int32) (m_beside : Nat → Int32) (m_then : Nat → Int32) (m_ways : Nat → Int64) (m_further : Nat → Int64) (m_canBe : Nat → Int32) (m_loops : Nat → Int32) (m_ran : Nat → Int32) (m_told0 : Nat → Int32) : Met l yX7_free (ws_ yX7_free cX7_free 1 (some .int)) (zR 1 0 0) (zPo G [.ref (ad 0)] (mW G ad m_status m_top m_bottom m_taped m_size m_token m_from m_end m_value m_faultKind m_faultPlace m_faults m_seen m_depth m_counted m_lead m_round m_tried m_triedMany m_drawn m_ranSteps m_isTold m_marks m_at m_names m_sort m_trayMany m_trays m_tape m_text m_opened m_beside m_then m_ways m_further m_canBe m_loops m_ran m_told0)) (k2_QcV (.int (mf_free m_at))) 0 0 (fun _ => False) := by
  refine zr_entO (by decide) (Nat.le_of_ble_eq_true rfl) ?_
  intro p e s m below meth c ⟨hx, hb, hr, hml, hown, hts, hlocks, hnm⟩ ls hl hP hK hE
  have hown : s.vm.findClass RX7 = some m.cls := hown
  have hl : lv_has ls 1 [(0, .ref (ad 0))] := hl
  refine lv_aload_n hx hb dX7_free_0 rfl (lv_at hl 0 rfl) ?_
  refine va_get (D := G.1) (ci := 7) (v := .ref (ad 1)) (C := RX7) (T := TX7) (N := 39) hx hb hts in_X7 hown hK.1 hP 0 rfl rfl 0 (Nat.le_of_ble_eq_true rfl) (hts _ q1467) (fun _ h => h) rfl dX7_free_1 ?_
  refine lv_iconst (v := 2) hx hb dX7_free_4 (by decide) ?_
  refine zr_iald 2 (v := m_at 2) hx hb hK hP 1 rfl rfl (Nat.le_of_ble_eq_true rfl) rfl (by decide) rfl dX7_free_5 ?_
  refine lv_aload_n hx hb dX7_free_6 rfl (lv_at hl 0 rfl) ?_
  refine va_get (D := G.1) (ci := 7) (v := .ref (ad 1)) (C := RX7) (T := TX7) (N := 39) hx hb hts in_X7 hown hK.1 hP 0 rfl rfl 0 (Nat.le_of_ble_eq_true rfl) (hts _ q1467) (fun _ h => h) rfl dX7_free_7 ?_
  refine lv_iconst (v := 4) hx hb dX7_free_10 (by decide) ?_
  refine zr_iald 4 (v := m_at 4) hx hb hK hP 1 rfl rfl (Nat.le_of_ble_eq_true rfl) rfl (by decide) rfl dX7_free_11 ?_
  refine lv_iconst (v := (-1)) hx hb dX7_free_12 (by decide) ?_
  refine lv_ixor hx hb dX7_free_13 ?_
  refine lv_iand hx hb dX7_free_14 ?_
  have e_ : mf_free m_at = (m_at 2) &&& ((m_at 4) ^^^ (-1)) := by rw [mf_free]
  exact zr_oi hx hb hr hlocks dX7_free_15 (congrArg Value.int e_)
def mf_isPlace (Wd : Nat) (R : Nat) (x : Int32) (y : Int32) : Bool :=
  (if x < 0 then
    false
  else
    (if (nI Wd) ≤ x then
      false
    else
      (if y < 0 then
        false
      else
        (if (nI R) ≤ y then
          false
        else
          true))))
theorem hd_X7_isPlace : yX7_isPlace.cls = RX7 ∧ yX7_isPlace.cls ≠ "java/lang/invoke/MethodHandle" ∧ yX7_isPlace.cls ≠ "java/lang/invoke/VarHandle" ∧ (parseMethodDescriptor yX7_isPlace.desc).map (fun d => d.parameters.length) = some 2 := by decide +kernel
set_option maxHeartbeats 4000000 in
set_option maxRecDepth 100000 in
theorem mt_mf_isPlace (l : Launch) (G : zG) (ad : Nat → Nat) (m_status : Int32) (m_top : Int64) (m_bottom : Int64) (m_taped : Int32) (m_size : Int32) (m_token : Int32) (m_from : Int32) (m_end : Int32) (m_value : Int32) (m_faultKind : Int32) (m_faultPlace : Int32) (m_faults : Int32) (m_seen : Int32) (m_depth : Int32) (m_counted : Int32) (m_lead : Int32) (m_round : Int32) (m_tried : Int32) (m_triedMany : Int32) (m_drawn : Int32) (m_ranSteps : Int32) (m_isTold : Bool) (m_marks : Int32) (m_at : Nat → Int32) (m_names : Nat → Int64) (m_sort : Nat → Int32) (m_trayMany : Nat → Int32) (m_trays : Nat → Int64) (m_tape : Nat → Int32) (m_text : Nat → Int32) (m_opened : Nat → Int32) (m_beside : Nat → Int32) (m_then : Nat → Int32) (m_ways : Nat → Int64) (m_further : Nat → Int64) (m_canBe : Nat → Int32) (m_loops : Nat → Int32) (m_ran : Nat → Int32) (m_told0 : Nat → Int32) (Wd : Nat) (R : Nat) (nr : Nat) (nc : Nat) (x : Int32) (y : Int32) (hG : mOK m_at Wd R nr nc) : Met l yX7_isPlace (ws_ yX7_isPlace cX7_isPlace 3 (some .boolean)) (zR 1 0 0) (zPo G [.ref (ad 0), .int x, .int y] (mW G ad m_status m_top m_bottom m_taped m_size m_token m_from m_end m_value m_faultKind m_faultPlace m_faults m_seen m_depth m_counted m_lead m_round m_tried m_triedMany m_drawn m_ranSteps m_isTold m_marks m_at m_names m_sort m_trayMany m_trays m_tape m_text m_opened m_beside m_then m_ways m_further m_canBe m_loops m_ran m_told0)) (k2_QcV (.int (zb (mf_isPlace Wd R x y)))) 0 0 (fun _ => False) := by
  refine zr_entO (by decide) (Nat.le_of_ble_eq_true rfl) ?_
  intro p e s m below meth c ⟨hx, hb, hr, hml, hown, hts, hlocks, hnm⟩ ls hl hP hK hE
  have hown : s.vm.findClass RX7 = some m.cls := hown
  have hl : lv_has ls 3 [(0, .ref (ad 0)), (1, .int x), (2, .int y)] := hl
  have hWR := mOK_WR hG
  have hW0 := mOK_W0 hG
  have hW5 := mOK_W5 hG
  have hR0 := mOK_R0 hG
  have hR6 := mOK_R6 hG
  have hn4 := mOK_n4 hG
  have hc6 := mOK_c6 hG
  refine lv_iload_n hx hb dX7_isPlace_0 rfl (lv_at hl 1 rfl) ?_
  refine lv_if_lt (tgt := 32) hx hb dX7_isPlace_1 (by decide) (fun c_1 => ?_) (fun c_1 => ?_)
  · refine lv_iconst (v := 0) hx hb dX7_isPlace_32 (by decide) ?_
    have e_ : mf_isPlace Wd R x y = false := by rw [mf_isPlace, if_pos c_1]
    exact zr_oz hx hb hr hlocks dX7_isPlace_33 rfl (congrArg (fun z => Value.int (zb z)) e_)
  · refine lv_iload_n hx hb dX7_isPlace_4 rfl (lv_at hl 1 rfl) ?_
    refine lv_aload_n hx hb dX7_isPlace_5 rfl (lv_at hl 0 rfl) ?_
    refine va_get (D := G.1) (ci := 7) (v := .ref (ad 1)) (C := RX7) (T := TX7) (N := 39) hx hb hts in_X7 hown hK.1 hP 0 rfl rfl 0 (Nat.le_of_ble_eq_true rfl) (hts _ q1467) (fun _ h => h) rfl dX7_isPlace_6 ?_
    refine lv_iconst (v := 0) hx hb dX7_isPlace_9 (by decide) ?_
    refine zr_iald 0 (v := nI Wd) hx hb hK hP 1 rfl rfl (Nat.le_of_ble_eq_true rfl) rfl (by decide) (mOK_w hG) dX7_isPlace_10 ?_
    refine lv_icmp_ge (tgt := 32) hx hb dX7_isPlace_11 (by decide) (fun c_2 => ?_) (fun c_2 => ?_)
    · refine lv_iconst (v := 0) hx hb dX7_isPlace_32 (by decide) ?_
      have e_ : mf_isPlace Wd R x y = false := by rw [mf_isPlace, if_neg c_1, if_pos c_2]
      exact zr_oz hx hb hr hlocks dX7_isPlace_33 rfl (congrArg (fun z => Value.int (zb z)) e_)
    · refine lv_iload_n hx hb dX7_isPlace_14 rfl (lv_at hl 2 rfl) ?_
      refine lv_if_lt (tgt := 32) hx hb dX7_isPlace_15 (by decide) (fun c_3 => ?_) (fun c_3 => ?_)
      · refine lv_iconst (v := 0) hx hb dX7_isPlace_32 (by decide) ?_
        have e_ : mf_isPlace Wd R x y = false := by rw [mf_isPlace, if_neg c_1, if_neg c_2, if_pos c_3]
        exact zr_oz hx hb hr hlocks dX7_isPlace_33 rfl (congrArg (fun z => Value.int (zb z)) e_)
      · refine lv_iload_n hx hb dX7_isPlace_18 rfl (lv_at hl 2 rfl) ?_
        refine lv_aload_n hx hb dX7_isPlace_19 rfl (lv_at hl 0 rfl) ?_
        refine va_get (D := G.1) (ci := 7) (v := .ref (ad 1)) (C := RX7) (T := TX7) (N := 39) hx hb hts in_X7 hown hK.1 hP 0 rfl rfl 0 (Nat.le_of_ble_eq_true rfl) (hts _ q1467) (fun _ h => h) rfl dX7_isPlace_20 ?_
        refine lv_iconst (v := 1) hx hb dX7_isPlace_23 (by decide) ?_
        refine zr_iald 1 (v := nI R) hx hb hK hP 1 rfl rfl (Nat.le_of_ble_eq_true rfl) rfl (by decide) (mOK_r hG) dX7_isPlace_24 ?_
        refine lv_icmp_ge (tgt := 32) hx hb dX7_isPlace_25 (by decide) (fun c_4 => ?_) (fun c_4 => ?_)
        · refine lv_iconst (v := 0) hx hb dX7_isPlace_32 (by decide) ?_
          have e_ : mf_isPlace Wd R x y = false := by rw [mf_isPlace, if_neg c_1, if_neg c_2, if_neg c_3, if_pos c_4]
          exact zr_oz hx hb hr hlocks dX7_isPlace_33 rfl (congrArg (fun z => Value.int (zb z)) e_)
        · refine lv_iconst (v := 1) hx hb dX7_isPlace_28 (by decide) ?_
          refine lv_goto (tgt := 33) hx hb dX7_isPlace_29 (by decide) ?_
          have e_ : mf_isPlace Wd R x y = true := by rw [mf_isPlace, if_neg c_1, if_neg c_2, if_neg c_3, if_neg c_4]
          exact zr_oz hx hb hr hlocks dX7_isPlace_33 rfl (congrArg (fun z => Value.int (zb z)) e_)
def mf_bitOf (Wd : Nat) (x : Int32) (y : Int32) : Int32 :=
  ((1 : Int32) <<< ((((nI Wd) * y) + x) &&& 31))
theorem hd_X7_bitOf : yX7_bitOf.cls = RX7 ∧ yX7_bitOf.cls ≠ "java/lang/invoke/MethodHandle" ∧ yX7_bitOf.cls ≠ "java/lang/invoke/VarHandle" ∧ (parseMethodDescriptor yX7_bitOf.desc).map (fun d => d.parameters.length) = some 2 := by decide +kernel
set_option maxHeartbeats 4000000 in
set_option maxRecDepth 100000 in
theorem mt_mf_bitOf (l : Launch) (G : zG) (ad : Nat → Nat) (m_status : Int32) (m_top : Int64) (m_bottom : Int64) (m_taped : Int32) (m_size : Int32) (m_token : Int32) (m_from : Int32) (m_end : Int32) (m_value : Int32) (m_faultKind : Int32) (m_faultPlace : Int32) (m_faults : Int32) (m_seen : Int32) (m_depth : Int32) (m_counted : Int32) (m_lead : Int32) (m_round : Int32) (m_tried : Int32) (m_triedMany : Int32) (m_drawn : Int32) (m_ranSteps : Int32) (m_isTold : Bool) (m_marks : Int32) (m_at : Nat → Int32) (m_names : Nat → Int64) (m_sort : Nat → Int32) (m_trayMany : Nat → Int32) (m_trays : Nat → Int64) (m_tape : Nat → Int32) (m_text : Nat → Int32) (m_opened : Nat → Int32) (m_beside : Nat → Int32) (m_then : Nat → Int32) (m_ways : Nat → Int64) (m_further : Nat → Int64) (m_canBe : Nat → Int32) (m_loops : Nat → Int32) (m_ran : Nat → Int32) (m_told0 : Nat → Int32) (Wd : Nat) (R : Nat) (nr : Nat) (nc : Nat) (x : Int32) (y : Int32) (hG : mOK m_at Wd R nr nc) : Met l yX7_bitOf (ws_ yX7_bitOf cX7_bitOf 3 (some .int)) (zR 1 0 0) (zPo G [.ref (ad 0), .int x, .int y] (mW G ad m_status m_top m_bottom m_taped m_size m_token m_from m_end m_value m_faultKind m_faultPlace m_faults m_seen m_depth m_counted m_lead m_round m_tried m_triedMany m_drawn m_ranSteps m_isTold m_marks m_at m_names m_sort m_trayMany m_trays m_tape m_text m_opened m_beside m_then m_ways m_further m_canBe m_loops m_ran m_told0)) (k2_QcV (.int (mf_bitOf Wd x y))) 0 0 (fun _ => False) := by
  refine zr_entO (by decide) (Nat.le_of_ble_eq_true rfl) ?_
  intro p e s m below meth c ⟨hx, hb, hr, hml, hown, hts, hlocks, hnm⟩ ls hl hP hK hE
  have hown : s.vm.findClass RX7 = some m.cls := hown
  have hl : lv_has ls 3 [(0, .ref (ad 0)), (1, .int x), (2, .int y)] := hl
  have hWR := mOK_WR hG
  have hW0 := mOK_W0 hG
  have hW5 := mOK_W5 hG
  have hR0 := mOK_R0 hG
  have hR6 := mOK_R6 hG
  have hn4 := mOK_n4 hG
  have hc6 := mOK_c6 hG
  refine lv_iconst (v := 1) hx hb dX7_bitOf_0 (by decide) ?_
  refine lv_aload_n hx hb dX7_bitOf_1 rfl (lv_at hl 0 rfl) ?_
  refine va_get (D := G.1) (ci := 7) (v := .ref (ad 1)) (C := RX7) (T := TX7) (N := 39) hx hb hts in_X7 hown hK.1 hP 0 rfl rfl 0 (Nat.le_of_ble_eq_true rfl) (hts _ q1467) (fun _ h => h) rfl dX7_bitOf_2 ?_
  refine lv_iconst (v := 0) hx hb dX7_bitOf_5 (by decide) ?_
  refine zr_iald 0 (v := nI Wd) hx hb hK hP 1 rfl rfl (Nat.le_of_ble_eq_true rfl) rfl (by decide) (mOK_w hG) dX7_bitOf_6 ?_
  refine lv_iload_n hx hb dX7_bitOf_7 rfl (lv_at hl 2 rfl) ?_
  refine lv_imul hx hb dX7_bitOf_8 ?_
  refine lv_iload_n hx hb dX7_bitOf_9 rfl (lv_at hl 1 rfl) ?_
  refine lv_iadd hx hb dX7_bitOf_10 ?_
  refine lv_ishl hx hb dX7_bitOf_11 ?_
  have e_ : mf_bitOf Wd x y = (1 : Int32) <<< ((((nI Wd) * y) + x) &&& 31) := by rw [mf_bitOf]
  exact zr_oi hx hb hr hlocks dX7_bitOf_12 (congrArg Value.int e_)
def mf_wrongHouse (m_at : Nat → Int32) (Wd : Nat) (R : Nat) (x : Int32) (y : Int32) : Int32 :=
  (if (mf_isPlace Wd R x y) = true then
    (if ((m_at 2) &&& (mf_bitOf Wd x y)) = 0 then
      7
    else
      0)
  else
    1)
theorem hd_X7_wrongHouse : yX7_wrongHouse.cls = RX7 ∧ yX7_wrongHouse.cls ≠ "java/lang/invoke/MethodHandle" ∧ yX7_wrongHouse.cls ≠ "java/lang/invoke/VarHandle" ∧ (parseMethodDescriptor yX7_wrongHouse.desc).map (fun d => d.parameters.length) = some 2 := by decide +kernel
set_option maxHeartbeats 4000000 in
set_option maxRecDepth 100000 in
theorem mt_mf_wrongHouse (l : Launch) (G : zG) (ad : Nat → Nat) (m_status : Int32) (m_top : Int64) (m_bottom : Int64) (m_taped : Int32) (m_size : Int32) (m_token : Int32) (m_from : Int32) (m_end : Int32) (m_value : Int32) (m_faultKind : Int32) (m_faultPlace : Int32) (m_faults : Int32) (m_seen : Int32) (m_depth : Int32) (m_counted : Int32) (m_lead : Int32) (m_round : Int32) (m_tried : Int32) (m_triedMany : Int32) (m_drawn : Int32) (m_ranSteps : Int32) (m_isTold : Bool) (m_marks : Int32) (m_at : Nat → Int32) (m_names : Nat → Int64) (m_sort : Nat → Int32) (m_trayMany : Nat → Int32) (m_trays : Nat → Int64) (m_tape : Nat → Int32) (m_text : Nat → Int32) (m_opened : Nat → Int32) (m_beside : Nat → Int32) (m_then : Nat → Int32) (m_ways : Nat → Int64) (m_further : Nat → Int64) (m_canBe : Nat → Int32) (m_loops : Nat → Int32) (m_ran : Nat → Int32) (m_told0 : Nat → Int32) (Wd : Nat) (R : Nat) (nr : Nat) (nc : Nat) (x : Int32) (y : Int32) (hG : mOK m_at Wd R nr nc) : Met l yX7_wrongHouse (ws_ yX7_wrongHouse cX7_wrongHouse 3 (some .int)) (zR 2 0 0) (zPo G [.ref (ad 0), .int x, .int y] (mW G ad m_status m_top m_bottom m_taped m_size m_token m_from m_end m_value m_faultKind m_faultPlace m_faults m_seen m_depth m_counted m_lead m_round m_tried m_triedMany m_drawn m_ranSteps m_isTold m_marks m_at m_names m_sort m_trayMany m_trays m_tape m_text m_opened m_beside m_then m_ways m_further m_canBe m_loops m_ran m_told0)) (k2_QcV (.int (mf_wrongHouse m_at Wd R x y))) 0 0 (fun _ => False) := by
  refine zr_entO (by decide) (Nat.le_of_ble_eq_true rfl) ?_
  intro p e s m below meth c ⟨hx, hb, hr, hml, hown, hts, hlocks, hnm⟩ ls hl hP hK hE
  have hown : s.vm.findClass RX7 = some m.cls := hown
  have hl : lv_has ls 3 [(0, .ref (ad 0)), (1, .int x), (2, .int y)] := hl
  refine lv_aload_n hx hb dX7_wrongHouse_0 rfl (lv_at hl 0 rfl) ?_
  refine lv_iload_n hx hb dX7_wrongHouse_1 rfl (lv_at hl 1 rfl) ?_
  refine lv_iload_n hx hb dX7_wrongHouse_2 rfl (lv_at hl 2 rfl) ?_
  refine zr_obV ⟨hx, hb, hml, hown, hts⟩ (mt_mf_isPlace l G ad m_status m_top m_bottom m_taped m_size m_token m_from m_end m_value m_faultKind m_faultPlace m_faults m_seen m_depth m_counted m_lead m_round m_tried m_triedMany m_drawn m_ranSteps m_isTold m_marks m_at m_names m_sort m_trayMany m_trays m_tape m_text m_opened m_beside m_then m_ways m_further m_canBe m_loops m_ran m_told0 Wd R nr nc x y hG) (cwV 2 hts (lw_V q1803 q1805 qs94 q144 q1806) rfl rfl rfl hd_X7_isPlace ⟨(Nat.le_of_ble_eq_true rfl), (Nat.le_of_ble_eq_true rfl)⟩) hP hK hE 0 7 rfl rfl rfl hl.1 rfl (Nat.le_of_ble_eq_true rfl) dX7_wrongHouse_3 ⟨Nat.le_refl _, Nat.le_refl _⟩ ?_
  refine zr_neB (mf_isPlace Wd R x y) (tgt := 13) hx hb dX7_wrongHouse_6 (by decide) (fun c_1 => ?_) (fun c_1 => ?_)
  · refine lv_aload_n hx hb dX7_wrongHouse_13 rfl (lv_at hl 0 rfl) ?_
    refine va_get (D := G.1) (ci := 7) (v := .ref (ad 1)) (C := RX7) (T := TX7) (N := 39) hx hb hts in_X7 hown hK.1 hP 0 rfl rfl 0 (Nat.le_of_ble_eq_true rfl) (hts _ q1467) (fun _ h => h) rfl dX7_wrongHouse_14 ?_
    refine lv_iconst (v := 2) hx hb dX7_wrongHouse_17 (by decide) ?_
    refine zr_iald 2 (v := m_at 2) hx hb hK hP 1 rfl rfl (Nat.le_of_ble_eq_true rfl) rfl (by decide) rfl dX7_wrongHouse_18 ?_
    refine lv_aload_n hx hb dX7_wrongHouse_19 rfl (lv_at hl 0 rfl) ?_
    refine lv_iload_n hx hb dX7_wrongHouse_20 rfl (lv_at hl 1 rfl) ?_
    refine lv_iload_n hx hb dX7_wrongHouse_21 rfl (lv_at hl 2 rfl) ?_
    refine zr_obV ⟨hx, hb, hml, hown, hts⟩ (mt_mf_bitOf l G ad m_status m_top m_bottom m_taped m_size m_token m_from m_end m_value m_faultKind m_faultPlace m_faults m_seen m_depth m_counted m_lead m_round m_tried m_triedMany m_drawn m_ranSteps m_isTold m_marks m_at m_names m_sort m_trayMany m_trays m_tape m_text m_opened m_beside m_then m_ways m_further m_canBe m_loops m_ran m_told0 Wd R nr nc x y hG) (cwV 2 hts (lw_V q1807 q1809 qs95 q144 q1810) rfl rfl rfl hd_X7_bitOf ⟨(Nat.le_of_ble_eq_true rfl), (Nat.le_of_ble_eq_true rfl)⟩) hP hK hE 0 7 rfl rfl rfl hl.1 rfl (Nat.le_of_ble_eq_true rfl) dX7_wrongHouse_22 ⟨Nat.le_refl _, Nat.le_refl _⟩ ?_
    refine lv_iand hx hb dX7_wrongHouse_25 ?_
    refine lv_if_ne (tgt := 34) hx hb dX7_wrongHouse_26 (by decide) (fun c_2 => ?_) (fun c_2 => ?_)
    · refine lv_iconst (v := 0) hx hb dX7_wrongHouse_34 (by decide) ?_
      have e_ : mf_wrongHouse m_at Wd R x y = 0 := by rw [mf_wrongHouse, if_pos c_1, if_neg c_2]
      exact zr_oi hx hb hr hlocks dX7_wrongHouse_35 (congrArg Value.int e_)
    · refine lv_bipush (v := 7) hx hb dX7_wrongHouse_29 (by decide) ?_
      refine lv_goto (tgt := 35) hx hb dX7_wrongHouse_31 (by decide) ?_
      have e_ : mf_wrongHouse m_at Wd R x y = 7 := by rw [mf_wrongHouse, if_pos c_1, if_pos c_2]
      exact zr_oi hx hb hr hlocks dX7_wrongHouse_35 (congrArg Value.int e_)
  · refine lv_iconst (v := 1) hx hb dX7_wrongHouse_9 (by decide) ?_
    refine lv_goto (tgt := 35) hx hb dX7_wrongHouse_10 (by decide) ?_
    have e_ : mf_wrongHouse m_at Wd R x y = 1 := by rw [mf_wrongHouse, if_neg c_1]
    exact zr_oi hx hb hr hlocks dX7_wrongHouse_35 (congrArg Value.int e_)
def mf_wrongLamp (m_at : Nat → Int32) (Wd : Nat) (R : Nat) (x : Int32) (y : Int32) : Int32 :=
  (if (mf_wrongHouse m_at Wd R x y) ≤ 0 then
    (if ((m_at 4) &&& (mf_bitOf Wd x y)) = 0 then
      0
    else
      7)
  else
    (mf_wrongHouse m_at Wd R x y))
theorem hd_X7_wrongLamp : yX7_wrongLamp.cls = RX7 ∧ yX7_wrongLamp.cls ≠ "java/lang/invoke/MethodHandle" ∧ yX7_wrongLamp.cls ≠ "java/lang/invoke/VarHandle" ∧ (parseMethodDescriptor yX7_wrongLamp.desc).map (fun d => d.parameters.length) = some 2 := by decide +kernel
set_option maxHeartbeats 4000000 in
set_option maxRecDepth 100000 in
theorem mt_mf_wrongLamp (l : Launch) (G : zG) (ad : Nat → Nat) (m_status : Int32) (m_top : Int64) (m_bottom : Int64) (m_taped : Int32) (m_size : Int32) (m_token : Int32) (m_from : Int32) (m_end : Int32) (m_value : Int32) (m_faultKind : Int32) (m_faultPlace : Int32) (m_faults : Int32) (m_seen : Int32) (m_depth : Int32) (m_counted : Int32) (m_lead : Int32) (m_round : Int32) (m_tried : Int32) (m_triedMany : Int32) (m_drawn : Int32) (m_ranSteps : Int32) (m_isTold : Bool) (m_marks : Int32) (m_at : Nat → Int32) (m_names : Nat → Int64) (m_sort : Nat → Int32) (m_trayMany : Nat → Int32) (m_trays : Nat → Int64) (m_tape : Nat → Int32) (m_text : Nat → Int32) (m_opened : Nat → Int32) (m_beside : Nat → Int32) (m_then : Nat → Int32) (m_ways : Nat → Int64) (m_further : Nat → Int64) (m_canBe : Nat → Int32) (m_loops : Nat → Int32) (m_ran : Nat → Int32) (m_told0 : Nat → Int32) (Wd : Nat) (R : Nat) (nr : Nat) (nc : Nat) (x : Int32) (y : Int32) (hG : mOK m_at Wd R nr nc) : Met l yX7_wrongLamp (ws_ yX7_wrongLamp cX7_wrongLamp 3 (some .int)) (zR 3 0 0) (zPo G [.ref (ad 0), .int x, .int y] (mW G ad m_status m_top m_bottom m_taped m_size m_token m_from m_end m_value m_faultKind m_faultPlace m_faults m_seen m_depth m_counted m_lead m_round m_tried m_triedMany m_drawn m_ranSteps m_isTold m_marks m_at m_names m_sort m_trayMany m_trays m_tape m_text m_opened m_beside m_then m_ways m_further m_canBe m_loops m_ran m_told0)) (k2_QcV (.int (mf_wrongLamp m_at Wd R x y))) 0 0 (fun _ => False) := by
  refine zr_entO (by decide) (Nat.le_of_ble_eq_true rfl) ?_
  intro p e s m below meth c ⟨hx, hb, hr, hml, hown, hts, hlocks, hnm⟩ ls hl hP hK hE
  have hown : s.vm.findClass RX7 = some m.cls := hown
  have hl : lv_has ls 3 [(0, .ref (ad 0)), (1, .int x), (2, .int y)] := hl
  refine lv_aload_n hx hb dX7_wrongLamp_0 rfl (lv_at hl 0 rfl) ?_
  refine lv_iload_n hx hb dX7_wrongLamp_1 rfl (lv_at hl 1 rfl) ?_
  refine lv_iload_n hx hb dX7_wrongLamp_2 rfl (lv_at hl 2 rfl) ?_
  refine zr_obV ⟨hx, hb, hml, hown, hts⟩ (mt_mf_wrongHouse l G ad m_status m_top m_bottom m_taped m_size m_token m_from m_end m_value m_faultKind m_faultPlace m_faults m_seen m_depth m_counted m_lead m_round m_tried m_triedMany m_drawn m_ranSteps m_isTold m_marks m_at m_names m_sort m_trayMany m_trays m_tape m_text m_opened m_beside m_then m_ways m_further m_canBe m_loops m_ran m_told0 Wd R nr nc x y hG) (cwV 2 hts (lw_V q1799 q1801 qs93 q144 q1802) rfl rfl rfl hd_X7_wrongHouse ⟨(Nat.le_of_ble_eq_true rfl), (Nat.le_of_ble_eq_true rfl)⟩) hP hK hE 0 7 rfl rfl rfl hl.1 rfl (Nat.le_of_ble_eq_true rfl) dX7_wrongLamp_3 ⟨Nat.le_refl _, Nat.le_refl _⟩ ?_
  refine lv_if_le (tgt := 18) hx hb dX7_wrongLamp_6 (by decide) (fun c_1 => ?_) (fun c_1 => ?_)
  · refine lv_aload_n hx hb dX7_wrongLamp_18 rfl (lv_at hl 0 rfl) ?_
    refine va_get (D := G.1) (ci := 7) (v := .ref (ad 1)) (C := RX7) (T := TX7) (N := 39) hx hb hts in_X7 hown hK.1 hP 0 rfl rfl 0 (Nat.le_of_ble_eq_true rfl) (hts _ q1467) (fun _ h => h) rfl dX7_wrongLamp_19 ?_
    refine lv_iconst (v := 4) hx hb dX7_wrongLamp_22 (by decide) ?_
    refine zr_iald 4 (v := m_at 4) hx hb hK hP 1 rfl rfl (Nat.le_of_ble_eq_true rfl) rfl (by decide) rfl dX7_wrongLamp_23 ?_
    refine lv_aload_n hx hb dX7_wrongLamp_24 rfl (lv_at hl 0 rfl) ?_
    refine lv_iload_n hx hb dX7_wrongLamp_25 rfl (lv_at hl 1 rfl) ?_
    refine lv_iload_n hx hb dX7_wrongLamp_26 rfl (lv_at hl 2 rfl) ?_
    refine zr_obV ⟨hx, hb, hml, hown, hts⟩ (mt_mf_bitOf l G ad m_status m_top m_bottom m_taped m_size m_token m_from m_end m_value m_faultKind m_faultPlace m_faults m_seen m_depth m_counted m_lead m_round m_tried m_triedMany m_drawn m_ranSteps m_isTold m_marks m_at m_names m_sort m_trayMany m_trays m_tape m_text m_opened m_beside m_then m_ways m_further m_canBe m_loops m_ran m_told0 Wd R nr nc x y hG) (cwV 2 hts (lw_V q1807 q1809 qs95 q144 q1810) rfl rfl rfl hd_X7_bitOf ⟨(Nat.le_of_ble_eq_true rfl), (Nat.le_of_ble_eq_true rfl)⟩) hP hK hE 0 7 rfl rfl rfl hl.1 rfl (Nat.le_of_ble_eq_true rfl) dX7_wrongLamp_27 ⟨Nat.le_refl _, Nat.le_refl _⟩ ?_
    refine lv_iand hx hb dX7_wrongLamp_30 ?_
    refine lv_if_ne (tgt := 38) hx hb dX7_wrongLamp_31 (by decide) (fun c_2 => ?_) (fun c_2 => ?_)
    · refine lv_bipush (v := 7) hx hb dX7_wrongLamp_38 (by decide) ?_
      have e_ : mf_wrongLamp m_at Wd R x y = 7 := by rw [mf_wrongLamp, if_pos c_1, if_neg c_2]
      exact zr_oi hx hb hr hlocks dX7_wrongLamp_40 (congrArg Value.int e_)
    · refine lv_iconst (v := 0) hx hb dX7_wrongLamp_34 (by decide) ?_
      refine lv_goto (tgt := 40) hx hb dX7_wrongLamp_35 (by decide) ?_
      have e_ : mf_wrongLamp m_at Wd R x y = 0 := by rw [mf_wrongLamp, if_pos c_1, if_pos c_2]
      exact zr_oi hx hb hr hlocks dX7_wrongLamp_40 (congrArg Value.int e_)
  · refine lv_aload_n hx hb dX7_wrongLamp_9 rfl (lv_at hl 0 rfl) ?_
    refine lv_iload_n hx hb dX7_wrongLamp_10 rfl (lv_at hl 1 rfl) ?_
    refine lv_iload_n hx hb dX7_wrongLamp_11 rfl (lv_at hl 2 rfl) ?_
    refine zr_obV ⟨hx, hb, hml, hown, hts⟩ (mt_mf_wrongHouse l G ad m_status m_top m_bottom m_taped m_size m_token m_from m_end m_value m_faultKind m_faultPlace m_faults m_seen m_depth m_counted m_lead m_round m_tried m_triedMany m_drawn m_ranSteps m_isTold m_marks m_at m_names m_sort m_trayMany m_trays m_tape m_text m_opened m_beside m_then m_ways m_further m_canBe m_loops m_ran m_told0 Wd R nr nc x y hG) (cwV 2 hts (lw_V q1799 q1801 qs93 q144 q1802) rfl rfl rfl hd_X7_wrongHouse ⟨(Nat.le_of_ble_eq_true rfl), (Nat.le_of_ble_eq_true rfl)⟩) hP hK hE 0 7 rfl rfl rfl hl.1 rfl (Nat.le_of_ble_eq_true rfl) dX7_wrongLamp_12 ⟨Nat.le_refl _, Nat.le_refl _⟩ ?_
    refine lv_goto (tgt := 40) hx hb dX7_wrongLamp_15 (by decide) ?_
    have e_ : mf_wrongLamp m_at Wd R x y = mf_wrongHouse m_at Wd R x y := by rw [mf_wrongLamp, if_neg c_1]
    exact zr_oi hx hb hr hlocks dX7_wrongLamp_40 (congrArg Value.int e_)
def mf_whole (Wd : Nat) (R : Nat) : Int32 :=
  (((1 : Int32) <<< ((nI (Wd * R)) &&& 31)) - 1)
theorem hd_X7_whole : yX7_whole.cls = RX7 ∧ yX7_whole.cls ≠ "java/lang/invoke/MethodHandle" ∧ yX7_whole.cls ≠ "java/lang/invoke/VarHandle" ∧ (parseMethodDescriptor yX7_whole.desc).map (fun d => d.parameters.length) = some 0 := by decide +kernel
set_option maxHeartbeats 4000000 in
set_option maxRecDepth 100000 in
theorem mt_mf_whole (l : Launch) (G : zG) (ad : Nat → Nat) (m_status : Int32) (m_top : Int64) (m_bottom : Int64) (m_taped : Int32) (m_size : Int32) (m_token : Int32) (m_from : Int32) (m_end : Int32) (m_value : Int32) (m_faultKind : Int32) (m_faultPlace : Int32) (m_faults : Int32) (m_seen : Int32) (m_depth : Int32) (m_counted : Int32) (m_lead : Int32) (m_round : Int32) (m_tried : Int32) (m_triedMany : Int32) (m_drawn : Int32) (m_ranSteps : Int32) (m_isTold : Bool) (m_marks : Int32) (m_at : Nat → Int32) (m_names : Nat → Int64) (m_sort : Nat → Int32) (m_trayMany : Nat → Int32) (m_trays : Nat → Int64) (m_tape : Nat → Int32) (m_text : Nat → Int32) (m_opened : Nat → Int32) (m_beside : Nat → Int32) (m_then : Nat → Int32) (m_ways : Nat → Int64) (m_further : Nat → Int64) (m_canBe : Nat → Int32) (m_loops : Nat → Int32) (m_ran : Nat → Int32) (m_told0 : Nat → Int32) (Wd : Nat) (R : Nat) (nr : Nat) (nc : Nat) (hG : mOK m_at Wd R nr nc) : Met l yX7_whole (ws_ yX7_whole cX7_whole 1 (some .int)) (zR 2 0 0) (zPo G [.ref (ad 0)] (mW G ad m_status m_top m_bottom m_taped m_size m_token m_from m_end m_value m_faultKind m_faultPlace m_faults m_seen m_depth m_counted m_lead m_round m_tried m_triedMany m_drawn m_ranSteps m_isTold m_marks m_at m_names m_sort m_trayMany m_trays m_tape m_text m_opened m_beside m_then m_ways m_further m_canBe m_loops m_ran m_told0)) (k2_QcV (.int (mf_whole Wd R))) 0 0 (fun _ => False) := by
  refine zr_entO (by decide) (Nat.le_of_ble_eq_true rfl) ?_
  intro p e s m below meth c ⟨hx, hb, hr, hml, hown, hts, hlocks, hnm⟩ ls hl hP hK hE
  have hown : s.vm.findClass RX7 = some m.cls := hown
  have hl : lv_has ls 1 [(0, .ref (ad 0))] := hl
  have hWR := mOK_WR hG
  have hW0 := mOK_W0 hG
  have hW5 := mOK_W5 hG
  have hR0 := mOK_R0 hG
  have hR6 := mOK_R6 hG
  have hn4 := mOK_n4 hG
  have hc6 := mOK_c6 hG
  refine lv_iconst (v := 1) hx hb dX7_whole_0 (by decide) ?_
  refine lv_aload_n hx hb dX7_whole_1 rfl (lv_at hl 0 rfl) ?_
  refine zr_obV ⟨hx, hb, hml, hown, hts⟩ (mt_mf_places l G ad m_status m_top m_bottom m_taped m_size m_token m_from m_end m_value m_faultKind m_faultPlace m_faults m_seen m_depth m_counted m_lead m_round m_tried m_triedMany m_drawn m_ranSteps m_isTold m_marks m_at m_names m_sort m_trayMany m_trays m_tape m_text m_opened m_beside m_then m_ways m_further m_canBe m_loops m_ran m_told0 Wd R nr nc hG) (cwV 0 hts (lw_V q1815 q1817 qs97 q144 q1818) rfl rfl rfl hd_X7_places ⟨(Nat.le_of_ble_eq_true rfl), (Nat.le_of_ble_eq_true rfl)⟩) hP hK hE 0 7 rfl rfl rfl hl.1 rfl (Nat.le_of_ble_eq_true rfl) dX7_whole_2 ⟨Nat.le_refl _, Nat.le_refl _⟩ ?_
  refine lv_ishl hx hb dX7_whole_5 ?_
  refine lv_iconst (v := 1) hx hb dX7_whole_6 (by decide) ?_
  refine lv_isub hx hb dX7_whole_7 ?_
  have e_ : mf_whole Wd R = ((1 : Int32) <<< ((nI (Wd * R)) &&& 31)) - 1 := by rw [mf_whole]
  exact zr_oi hx hb hr hlocks dX7_whole_8 (congrArg Value.int e_)
def mf_near (m_at : Nat → Int32) (Wd : Nat) (R : Nat) (kk : Nat) : Int32 :=
  (if kk < Wd then
    (if (Wd * R) ≤ (kk + Wd) then
      (if (kk % Wd) = 0 then
        (if (m_at 9) = 1 then
          (if Wd ≤ ((kk % Wd) + 1) then
            (((0 ||| ((1 : Int32) <<< ((nI ((kk + Wd) - 1)) &&& 31))) ||| ((1 : Int32) <<< ((((nI kk) - (nI Wd)) + 1) &&& 31))) &&& (m_at 2))
          else
            (((0 ||| ((1 : Int32) <<< ((nI ((kk + Wd) - 1)) &&& 31))) ||| ((1 : Int32) <<< ((nI (kk + 1)) &&& 31))) &&& (m_at 2)))
        else
          (if Wd ≤ ((kk % Wd) + 1) then
            (0 &&& (m_at 2))
          else
            ((0 ||| ((1 : Int32) <<< ((nI (kk + 1)) &&& 31))) &&& (m_at 2))))
      else
        (if Wd ≤ ((kk % Wd) + 1) then
          (if (m_at 9) = 1 then
            (((0 ||| ((1 : Int32) <<< ((nI (kk - 1)) &&& 31))) ||| ((1 : Int32) <<< ((((nI kk) - (nI Wd)) + 1) &&& 31))) &&& (m_at 2))
          else
            ((0 ||| ((1 : Int32) <<< ((nI (kk - 1)) &&& 31))) &&& (m_at 2)))
        else
          (((0 ||| ((1 : Int32) <<< ((nI (kk - 1)) &&& 31))) ||| ((1 : Int32) <<< ((nI (kk + 1)) &&& 31))) &&& (m_at 2))))
    else
      (if (kk % Wd) = 0 then
        (if (m_at 9) = 1 then
          (if Wd ≤ ((kk % Wd) + 1) then
            ((((0 ||| ((1 : Int32) <<< ((nI (kk + Wd)) &&& 31))) ||| ((1 : Int32) <<< ((nI ((kk + Wd) - 1)) &&& 31))) ||| ((1 : Int32) <<< ((((nI kk) - (nI Wd)) + 1) &&& 31))) &&& (m_at 2))
          else
            ((((0 ||| ((1 : Int32) <<< ((nI (kk + Wd)) &&& 31))) ||| ((1 : Int32) <<< ((nI ((kk + Wd) - 1)) &&& 31))) ||| ((1 : Int32) <<< ((nI (kk + 1)) &&& 31))) &&& (m_at 2)))
        else
          (if Wd ≤ ((kk % Wd) + 1) then
            ((0 ||| ((1 : Int32) <<< ((nI (kk + Wd)) &&& 31))) &&& (m_at 2))
          else
            (((0 ||| ((1 : Int32) <<< ((nI (kk + Wd)) &&& 31))) ||| ((1 : Int32) <<< ((nI (kk + 1)) &&& 31))) &&& (m_at 2))))
      else
        (if Wd ≤ ((kk % Wd) + 1) then
          (if (m_at 9) = 1 then
            ((((0 ||| ((1 : Int32) <<< ((nI (kk + Wd)) &&& 31))) ||| ((1 : Int32) <<< ((nI (kk - 1)) &&& 31))) ||| ((1 : Int32) <<< ((((nI kk) - (nI Wd)) + 1) &&& 31))) &&& (m_at 2))
          else
            (((0 ||| ((1 : Int32) <<< ((nI (kk + Wd)) &&& 31))) ||| ((1 : Int32) <<< ((nI (kk - 1)) &&& 31))) &&& (m_at 2)))
        else
          ((((0 ||| ((1 : Int32) <<< ((nI (kk + Wd)) &&& 31))) ||| ((1 : Int32) <<< ((nI (kk - 1)) &&& 31))) ||| ((1 : Int32) <<< ((nI (kk + 1)) &&& 31))) &&& (m_at 2)))))
  else
    (if (Wd * R) ≤ (kk + Wd) then
      (if (kk % Wd) = 0 then
        (if (m_at 9) = 1 then
          (if Wd ≤ ((kk % Wd) + 1) then
            ((((0 ||| ((1 : Int32) <<< ((nI (kk - Wd)) &&& 31))) ||| ((1 : Int32) <<< ((nI ((kk + Wd) - 1)) &&& 31))) ||| ((1 : Int32) <<< ((((nI kk) - (nI Wd)) + 1) &&& 31))) &&& (m_at 2))
          else
            ((((0 ||| ((1 : Int32) <<< ((nI (kk - Wd)) &&& 31))) ||| ((1 : Int32) <<< ((nI ((kk + Wd) - 1)) &&& 31))) ||| ((1 : Int32) <<< ((nI (kk + 1)) &&& 31))) &&& (m_at 2)))
        else
          (if Wd ≤ ((kk % Wd) + 1) then
            ((0 ||| ((1 : Int32) <<< ((nI (kk - Wd)) &&& 31))) &&& (m_at 2))
          else
            (((0 ||| ((1 : Int32) <<< ((nI (kk - Wd)) &&& 31))) ||| ((1 : Int32) <<< ((nI (kk + 1)) &&& 31))) &&& (m_at 2))))
      else
        (if Wd ≤ ((kk % Wd) + 1) then
          (if (m_at 9) = 1 then
            ((((0 ||| ((1 : Int32) <<< ((nI (kk - Wd)) &&& 31))) ||| ((1 : Int32) <<< ((nI (kk - 1)) &&& 31))) ||| ((1 : Int32) <<< ((((nI kk) - (nI Wd)) + 1) &&& 31))) &&& (m_at 2))
          else
            (((0 ||| ((1 : Int32) <<< ((nI (kk - Wd)) &&& 31))) ||| ((1 : Int32) <<< ((nI (kk - 1)) &&& 31))) &&& (m_at 2)))
        else
          ((((0 ||| ((1 : Int32) <<< ((nI (kk - Wd)) &&& 31))) ||| ((1 : Int32) <<< ((nI (kk - 1)) &&& 31))) ||| ((1 : Int32) <<< ((nI (kk + 1)) &&& 31))) &&& (m_at 2))))
    else
      (if (kk % Wd) = 0 then
        (if (m_at 9) = 1 then
          (if Wd ≤ ((kk % Wd) + 1) then
            (((((0 ||| ((1 : Int32) <<< ((nI (kk - Wd)) &&& 31))) ||| ((1 : Int32) <<< ((nI (kk + Wd)) &&& 31))) ||| ((1 : Int32) <<< ((nI ((kk + Wd) - 1)) &&& 31))) ||| ((1 : Int32) <<< ((((nI kk) - (nI Wd)) + 1) &&& 31))) &&& (m_at 2))
          else
            (((((0 ||| ((1 : Int32) <<< ((nI (kk - Wd)) &&& 31))) ||| ((1 : Int32) <<< ((nI (kk + Wd)) &&& 31))) ||| ((1 : Int32) <<< ((nI ((kk + Wd) - 1)) &&& 31))) ||| ((1 : Int32) <<< ((nI (kk + 1)) &&& 31))) &&& (m_at 2)))
        else
          (if Wd ≤ ((kk % Wd) + 1) then
            (((0 ||| ((1 : Int32) <<< ((nI (kk - Wd)) &&& 31))) ||| ((1 : Int32) <<< ((nI (kk + Wd)) &&& 31))) &&& (m_at 2))
          else
            ((((0 ||| ((1 : Int32) <<< ((nI (kk - Wd)) &&& 31))) ||| ((1 : Int32) <<< ((nI (kk + Wd)) &&& 31))) ||| ((1 : Int32) <<< ((nI (kk + 1)) &&& 31))) &&& (m_at 2))))
      else
        (if Wd ≤ ((kk % Wd) + 1) then
          (if (m_at 9) = 1 then
            (((((0 ||| ((1 : Int32) <<< ((nI (kk - Wd)) &&& 31))) ||| ((1 : Int32) <<< ((nI (kk + Wd)) &&& 31))) ||| ((1 : Int32) <<< ((nI (kk - 1)) &&& 31))) ||| ((1 : Int32) <<< ((((nI kk) - (nI Wd)) + 1) &&& 31))) &&& (m_at 2))
          else
            ((((0 ||| ((1 : Int32) <<< ((nI (kk - Wd)) &&& 31))) ||| ((1 : Int32) <<< ((nI (kk + Wd)) &&& 31))) ||| ((1 : Int32) <<< ((nI (kk - 1)) &&& 31))) &&& (m_at 2)))
        else
          (((((0 ||| ((1 : Int32) <<< ((nI (kk - Wd)) &&& 31))) ||| ((1 : Int32) <<< ((nI (kk + Wd)) &&& 31))) ||| ((1 : Int32) <<< ((nI (kk - 1)) &&& 31))) ||| ((1 : Int32) <<< ((nI (kk + 1)) &&& 31))) &&& (m_at 2))))))
theorem hd_X7_near : yX7_near.cls = RX7 ∧ yX7_near.cls ≠ "java/lang/invoke/MethodHandle" ∧ yX7_near.cls ≠ "java/lang/invoke/VarHandle" ∧ (parseMethodDescriptor yX7_near.desc).map (fun d => d.parameters.length) = some 1 := by decide +kernel
set_option maxHeartbeats 4000000 in
set_option maxRecDepth 100000 in
theorem mt_mf_near (l : Launch) (G : zG) (ad : Nat → Nat) (m_status : Int32) (m_top : Int64) (m_bottom : Int64) (m_taped : Int32) (m_size : Int32) (m_token : Int32) (m_from : Int32) (m_end : Int32) (m_value : Int32) (m_faultKind : Int32) (m_faultPlace : Int32) (m_faults : Int32) (m_seen : Int32) (m_depth : Int32) (m_counted : Int32) (m_lead : Int32) (m_round : Int32) (m_tried : Int32) (m_triedMany : Int32) (m_drawn : Int32) (m_ranSteps : Int32) (m_isTold : Bool) (m_marks : Int32) (m_at : Nat → Int32) (m_names : Nat → Int64) (m_sort : Nat → Int32) (m_trayMany : Nat → Int32) (m_trays : Nat → Int64) (m_tape : Nat → Int32) (m_text : Nat → Int32) (m_opened : Nat → Int32) (m_beside : Nat → Int32) (m_then : Nat → Int32) (m_ways : Nat → Int64) (m_further : Nat → Int64) (m_canBe : Nat → Int32) (m_loops : Nat → Int32) (m_ran : Nat → Int32) (m_told0 : Nat → Int32) (Wd : Nat) (R : Nat) (nr : Nat) (nc : Nat) (kk : Nat) (hG : mOK m_at Wd R nr nc) (hkk : kk < 2 ^ 31 - 30) : Met l yX7_near (ws_ yX7_near cX7_near 5 (some .int)) (zR 2 0 0) (zPo G [.ref (ad 0), .int (nI kk)] (mW G ad m_status m_top m_bottom m_taped m_size m_token m_from m_end m_value m_faultKind m_faultPlace m_faults m_seen m_depth m_counted m_lead m_round m_tried m_triedMany m_drawn m_ranSteps m_isTold m_marks m_at m_names m_sort m_trayMany m_trays m_tape m_text m_opened m_beside m_then m_ways m_further m_canBe m_loops m_ran m_told0)) (k2_QcV (.int (mf_near m_at Wd R kk))) 0 0 (fun _ => False) := by
  refine zr_entO (by decide) (Nat.le_of_ble_eq_true rfl) ?_
  intro p e s m below meth c ⟨hx, hb, hr, hml, hown, hts, hlocks, hnm⟩ ls hl hP hK hE
  have hown : s.vm.findClass RX7 = some m.cls := hown
  have hl : lv_has ls 5 [(0, .ref (ad 0)), (1, .int (nI kk))] := hl
  have hWR := mOK_WR hG
  have hW0 := mOK_W0 hG
  have hW5 := mOK_W5 hG
  have hR0 := mOK_R0 hG
  have hR6 := mOK_R6 hG
  have hn4 := mOK_n4 hG
  have hc6 := mOK_c6 hG
  refine lv_aload_n hx hb dX7_near_0 rfl (lv_at hl 0 rfl) ?_
  refine va_get (D := G.1) (ci := 7) (v := .ref (ad 1)) (C := RX7) (T := TX7) (N := 39) hx hb hts in_X7 hown hK.1 hP 0 rfl rfl 0 (Nat.le_of_ble_eq_true rfl) (hts _ q1467) (fun _ h => h) rfl dX7_near_1 ?_
  refine lv_iconst (v := 0) hx hb dX7_near_4 (by decide) ?_
  refine zr_iald 0 (v := nI Wd) hx hb hK hP 1 rfl rfl (Nat.le_of_ble_eq_true rfl) rfl (by decide) (mOK_w hG) dX7_near_5 ?_
  refine lv_istore_n (lv' := [(2, .int (nI Wd)), (0, .ref (ad 0)), (1, .int (nI kk))]) hx hb dX7_near_6 rfl hl (by decide) rfl (fun ls hl => ?_)
  refine lv_iload_n hx hb dX7_near_7 rfl (lv_at hl 2 rfl) ?_
  refine lv_iload_n hx hb dX7_near_8 rfl (lv_at hl 0 rfl) ?_
  have hkw : kk % Wd < Wd := Nat.mod_lt _ (by omega)
  have hkm : kk % Wd ≤ kk := Nat.mod_le _ _
  refine zr_iremN kk Wd (by omega) (by omega) (by omega) hx hb dX7_near_9 ?_
  refine lv_istore_n (lv' := [(3, .int (nI (kk % Wd))), (2, .int (nI Wd)), (0, .ref (ad 0)), (1, .int (nI kk))]) hx hb dX7_near_10 rfl hl (by decide) rfl (fun ls hl => ?_)
  refine lv_iconst (v := 0) hx hb dX7_near_11 (by decide) ?_
  refine lv_istore (lv' := [(4, .int 0), (3, .int (nI (kk % Wd))), (2, .int (nI Wd)), (0, .ref (ad 0)), (1, .int (nI kk))]) hx hb dX7_near_12 hl (by decide) rfl (fun ls hl => ?_)
  refine lv_iload_n hx hb dX7_near_14 rfl (lv_at hl 4 rfl) ?_
  refine lv_iload_n hx hb dX7_near_15 rfl (lv_at hl 2 rfl) ?_
  refine zr_lt kk Wd (by omega) (by omega) (tgt := 29) hx hb dX7_near_16 (by decide) (fun c_1 => ?_) (fun c_1 => ?_)
  · refine lv_iload_n hx hb dX7_near_29 rfl (lv_at hl 4 rfl) ?_
    refine lv_iload_n hx hb dX7_near_30 rfl (lv_at hl 2 rfl) ?_
    refine zr_iaddN kk Wd hx hb dX7_near_31 ?_
    refine lv_aload_n hx hb dX7_near_32 rfl (lv_at hl 3 rfl) ?_
    refine zr_obV ⟨hx, hb, hml, hown, hts⟩ (mt_mf_places l G ad m_status m_top m_bottom m_taped m_size m_token m_from m_end m_value m_faultKind m_faultPlace m_faults m_seen m_depth m_counted m_lead m_round m_tried m_triedMany m_drawn m_ranSteps m_isTold m_marks m_at m_names m_sort m_trayMany m_trays m_tape m_text m_opened m_beside m_then m_ways m_further m_canBe m_loops m_ran m_told0 Wd R nr nc hG) (cwV 0 hts (lw_V q1815 q1817 qs97 q144 q1818) rfl rfl rfl hd_X7_places ⟨(Nat.le_of_ble_eq_true rfl), (Nat.le_of_ble_eq_true rfl)⟩) hP hK hE 0 7 rfl rfl rfl hl.1 rfl (Nat.le_of_ble_eq_true rfl) dX7_near_33 ⟨Nat.le_refl _, Nat.le_refl _⟩ ?_
    refine zr_ge (kk + Wd) (Wd * R) (by omega) (by omega) (tgt := 49) hx hb dX7_near_36 (by decide) (fun c_2 => ?_) (fun c_2 => ?_)
    · refine lv_iload_n hx hb dX7_near_49 rfl (lv_at hl 1 rfl) ?_
      refine zr_ifleN (kk % Wd) (by omega) (tgt := 66) hx hb dX7_near_50 (by decide) (fun c_3 => ?_) (fun c_3 => ?_)
      · refine lv_aload_n hx hb dX7_near_66 rfl (lv_at hl 3 rfl) ?_
        refine va_get (D := G.1) (ci := 7) (v := .ref (ad 1)) (C := RX7) (T := TX7) (N := 39) hx hb hts in_X7 hown hK.1 hP 0 rfl rfl 0 (Nat.le_of_ble_eq_true rfl) (hts _ q1467) (fun _ h => h) rfl dX7_near_67 ?_
        refine lv_bipush (v := 9) hx hb dX7_near_70 (by decide) ?_
        refine zr_iald 9 (v := m_at 9) hx hb hK hP 1 rfl rfl (Nat.le_of_ble_eq_true rfl) rfl (by decide) rfl dX7_near_72 ?_
        refine lv_iconst (v := 1) hx hb dX7_near_73 (by decide) ?_
        refine lv_icmp_ne (tgt := 89) hx hb dX7_near_74 (by decide) (fun c_4 => ?_) (fun c_4 => ?_)
        · refine lv_iload_n hx hb dX7_near_89 rfl (lv_at hl 1 rfl) ?_
          refine lv_iconst (v := 1) hx hb dX7_near_90 (by decide) ?_
          refine zr_iaddN (kk % Wd) 1 hx hb dX7_near_91 ?_
          refine lv_iload_n hx hb dX7_near_92 rfl (lv_at hl 2 rfl) ?_
          refine zr_ge ((kk % Wd) + 1) Wd (by omega) (by omega) (tgt := 109) hx hb dX7_near_93 (by decide) (fun c_5 => ?_) (fun c_5 => ?_)
          · refine lv_aload_n hx hb dX7_near_109 rfl (lv_at hl 3 rfl) ?_
            refine va_get (D := G.1) (ci := 7) (v := .ref (ad 1)) (C := RX7) (T := TX7) (N := 39) hx hb hts in_X7 hown hK.1 hP 0 rfl rfl 0 (Nat.le_of_ble_eq_true rfl) (hts _ q1467) (fun _ h => h) rfl dX7_near_110 ?_
            refine lv_bipush (v := 9) hx hb dX7_near_113 (by decide) ?_
            refine zr_iald 9 (v := m_at 9) hx hb hK hP 1 rfl rfl (Nat.le_of_ble_eq_true rfl) rfl (by decide) rfl dX7_near_115 ?_
            refine lv_iconst (v := 1) hx hb dX7_near_116 (by decide) ?_
            refine lv_icmp_ne (tgt := 132) hx hb dX7_near_117 (by decide) (fun _ => ?_) (fun z => absurd z c_4)
            refine lv_iload hx hb dX7_near_132 (lv_at hl 0 rfl) ?_
            refine lv_aload_n hx hb dX7_near_134 rfl (lv_at hl 3 rfl) ?_
            refine va_get (D := G.1) (ci := 7) (v := .ref (ad 1)) (C := RX7) (T := TX7) (N := 39) hx hb hts in_X7 hown hK.1 hP 0 rfl rfl 0 (Nat.le_of_ble_eq_true rfl) (hts _ q1467) (fun _ h => h) rfl dX7_near_135 ?_
            refine lv_iconst (v := 2) hx hb dX7_near_138 (by decide) ?_
            refine zr_iald 2 (v := m_at 2) hx hb hK hP 1 rfl rfl (Nat.le_of_ble_eq_true rfl) rfl (by decide) rfl dX7_near_139 ?_
            refine lv_iand hx hb dX7_near_140 ?_
            have e_ : mf_near m_at Wd R kk = 0 &&& (m_at 2) := by rw [mf_near, if_pos c_1, if_pos c_2, if_pos c_3, if_neg c_4, if_pos c_5]
            exact zr_oi hx hb hr hlocks dX7_near_141 (congrArg Value.int e_)
          · refine lv_iload hx hb dX7_near_96 (lv_at hl 0 rfl) ?_
            refine lv_iconst (v := 1) hx hb dX7_near_98 (by decide) ?_
            refine lv_iload_n hx hb dX7_near_99 rfl (lv_at hl 4 rfl) ?_
            refine lv_iconst (v := 1) hx hb dX7_near_100 (by decide) ?_
            refine zr_iaddN kk 1 hx hb dX7_near_101 ?_
            refine lv_ishl hx hb dX7_near_102 ?_
            refine lv_ior hx hb dX7_near_103 ?_
            refine lv_istore (lv' := [(4, .int (0 ||| ((1 : Int32) <<< ((nI (kk + 1)) &&& 31)))), (3, .int (nI (kk % Wd))), (2, .int (nI Wd)), (0, .ref (ad 0)), (1, .int (nI kk))]) hx hb dX7_near_104 hl (by decide) rfl (fun ls hl => ?_)
            refine lv_goto (tgt := 132) hx hb dX7_near_106 (by decide) ?_
            refine lv_iload hx hb dX7_near_132 (lv_at hl 0 rfl) ?_
            refine lv_aload_n hx hb dX7_near_134 rfl (lv_at hl 3 rfl) ?_
            refine va_get (D := G.1) (ci := 7) (v := .ref (ad 1)) (C := RX7) (T := TX7) (N := 39) hx hb hts in_X7 hown hK.1 hP 0 rfl rfl 0 (Nat.le_of_ble_eq_true rfl) (hts _ q1467) (fun _ h => h) rfl dX7_near_135 ?_
            refine lv_iconst (v := 2) hx hb dX7_near_138 (by decide) ?_
            refine zr_iald 2 (v := m_at 2) hx hb hK hP 1 rfl rfl (Nat.le_of_ble_eq_true rfl) rfl (by decide) rfl dX7_near_139 ?_
            refine lv_iand hx hb dX7_near_140 ?_
            have e_ : mf_near m_at Wd R kk = (0 ||| ((1 : Int32) <<< ((nI (kk + 1)) &&& 31))) &&& (m_at 2) := by rw [mf_near, if_pos c_1, if_pos c_2, if_pos c_3, if_neg c_4, if_neg c_5]
            exact zr_oi hx hb hr hlocks dX7_near_141 (congrArg Value.int e_)
        · refine lv_iload hx hb dX7_near_77 (lv_at hl 0 rfl) ?_
          refine lv_iconst (v := 1) hx hb dX7_near_79 (by decide) ?_
          refine lv_iload_n hx hb dX7_near_80 rfl (lv_at hl 4 rfl) ?_
          refine lv_iload_n hx hb dX7_near_81 rfl (lv_at hl 2 rfl) ?_
          refine zr_iaddN kk Wd hx hb dX7_near_82 ?_
          refine lv_iconst (v := 1) hx hb dX7_near_83 (by decide) ?_
          refine zr_isubN (kk + Wd) 1 (by omega) hx hb dX7_near_84 ?_
          refine lv_ishl hx hb dX7_near_85 ?_
          refine lv_ior hx hb dX7_near_86 ?_
          refine lv_istore (lv' := [(4, .int (0 ||| ((1 : Int32) <<< ((nI ((kk + Wd) - 1)) &&& 31)))), (3, .int (nI (kk % Wd))), (2, .int (nI Wd)), (0, .ref (ad 0)), (1, .int (nI kk))]) hx hb dX7_near_87 hl (by decide) rfl (fun ls hl => ?_)
          refine lv_iload_n hx hb dX7_near_89 rfl (lv_at hl 1 rfl) ?_
          refine lv_iconst (v := 1) hx hb dX7_near_90 (by decide) ?_
          refine zr_iaddN (kk % Wd) 1 hx hb dX7_near_91 ?_
          refine lv_iload_n hx hb dX7_near_92 rfl (lv_at hl 2 rfl) ?_
          refine zr_ge ((kk % Wd) + 1) Wd (by omega) (by omega) (tgt := 109) hx hb dX7_near_93 (by decide) (fun c_6 => ?_) (fun c_6 => ?_)
          · refine lv_aload_n hx hb dX7_near_109 rfl (lv_at hl 3 rfl) ?_
            refine va_get (D := G.1) (ci := 7) (v := .ref (ad 1)) (C := RX7) (T := TX7) (N := 39) hx hb hts in_X7 hown hK.1 hP 0 rfl rfl 0 (Nat.le_of_ble_eq_true rfl) (hts _ q1467) (fun _ h => h) rfl dX7_near_110 ?_
            refine lv_bipush (v := 9) hx hb dX7_near_113 (by decide) ?_
            refine zr_iald 9 (v := m_at 9) hx hb hK hP 1 rfl rfl (Nat.le_of_ble_eq_true rfl) rfl (by decide) rfl dX7_near_115 ?_
            refine lv_iconst (v := 1) hx hb dX7_near_116 (by decide) ?_
            refine lv_icmp_ne (tgt := 132) hx hb dX7_near_117 (by decide) (fun z => absurd c_4 z) (fun _ => ?_)
            refine lv_iload hx hb dX7_near_120 (lv_at hl 0 rfl) ?_
            refine lv_iconst (v := 1) hx hb dX7_near_122 (by decide) ?_
            refine lv_iload_n hx hb dX7_near_123 rfl (lv_at hl 4 rfl) ?_
            refine lv_iload_n hx hb dX7_near_124 rfl (lv_at hl 2 rfl) ?_
            refine lv_isub hx hb dX7_near_125 ?_
            refine lv_iconst (v := 1) hx hb dX7_near_126 (by decide) ?_
            refine lv_iadd hx hb dX7_near_127 ?_
            refine lv_ishl hx hb dX7_near_128 ?_
            refine lv_ior hx hb dX7_near_129 ?_
            refine lv_istore (lv' := [(4, .int ((0 ||| ((1 : Int32) <<< ((nI ((kk + Wd) - 1)) &&& 31))) ||| ((1 : Int32) <<< ((((nI kk) - (nI Wd)) + 1) &&& 31)))), (3, .int (nI (kk % Wd))), (2, .int (nI Wd)), (0, .ref (ad 0)), (1, .int (nI kk))]) hx hb dX7_near_130 hl (by decide) rfl (fun ls hl => ?_)
            refine lv_iload hx hb dX7_near_132 (lv_at hl 0 rfl) ?_
            refine lv_aload_n hx hb dX7_near_134 rfl (lv_at hl 3 rfl) ?_
            refine va_get (D := G.1) (ci := 7) (v := .ref (ad 1)) (C := RX7) (T := TX7) (N := 39) hx hb hts in_X7 hown hK.1 hP 0 rfl rfl 0 (Nat.le_of_ble_eq_true rfl) (hts _ q1467) (fun _ h => h) rfl dX7_near_135 ?_
            refine lv_iconst (v := 2) hx hb dX7_near_138 (by decide) ?_
            refine zr_iald 2 (v := m_at 2) hx hb hK hP 1 rfl rfl (Nat.le_of_ble_eq_true rfl) rfl (by decide) rfl dX7_near_139 ?_
            refine lv_iand hx hb dX7_near_140 ?_
            have e_ : mf_near m_at Wd R kk = ((0 ||| ((1 : Int32) <<< ((nI ((kk + Wd) - 1)) &&& 31))) ||| ((1 : Int32) <<< ((((nI kk) - (nI Wd)) + 1) &&& 31))) &&& (m_at 2) := by rw [mf_near, if_pos c_1, if_pos c_2, if_pos c_3, if_pos c_4, if_pos c_6]
            exact zr_oi hx hb hr hlocks dX7_near_141 (congrArg Value.int e_)
          · refine lv_iload hx hb dX7_near_96 (lv_at hl 0 rfl) ?_
            refine lv_iconst (v := 1) hx hb dX7_near_98 (by decide) ?_
            refine lv_iload_n hx hb dX7_near_99 rfl (lv_at hl 4 rfl) ?_
            refine lv_iconst (v := 1) hx hb dX7_near_100 (by decide) ?_
            refine zr_iaddN kk 1 hx hb dX7_near_101 ?_
            refine lv_ishl hx hb dX7_near_102 ?_
            refine lv_ior hx hb dX7_near_103 ?_
            refine lv_istore (lv' := [(4, .int ((0 ||| ((1 : Int32) <<< ((nI ((kk + Wd) - 1)) &&& 31))) ||| ((1 : Int32) <<< ((nI (kk + 1)) &&& 31)))), (3, .int (nI (kk % Wd))), (2, .int (nI Wd)), (0, .ref (ad 0)), (1, .int (nI kk))]) hx hb dX7_near_104 hl (by decide) rfl (fun ls hl => ?_)
            refine lv_goto (tgt := 132) hx hb dX7_near_106 (by decide) ?_
            refine lv_iload hx hb dX7_near_132 (lv_at hl 0 rfl) ?_
            refine lv_aload_n hx hb dX7_near_134 rfl (lv_at hl 3 rfl) ?_
            refine va_get (D := G.1) (ci := 7) (v := .ref (ad 1)) (C := RX7) (T := TX7) (N := 39) hx hb hts in_X7 hown hK.1 hP 0 rfl rfl 0 (Nat.le_of_ble_eq_true rfl) (hts _ q1467) (fun _ h => h) rfl dX7_near_135 ?_
            refine lv_iconst (v := 2) hx hb dX7_near_138 (by decide) ?_
            refine zr_iald 2 (v := m_at 2) hx hb hK hP 1 rfl rfl (Nat.le_of_ble_eq_true rfl) rfl (by decide) rfl dX7_near_139 ?_
            refine lv_iand hx hb dX7_near_140 ?_
            have e_ : mf_near m_at Wd R kk = ((0 ||| ((1 : Int32) <<< ((nI ((kk + Wd) - 1)) &&& 31))) ||| ((1 : Int32) <<< ((nI (kk + 1)) &&& 31))) &&& (m_at 2) := by rw [mf_near, if_pos c_1, if_pos c_2, if_pos c_3, if_pos c_4, if_neg c_6]
            exact zr_oi hx hb hr hlocks dX7_near_141 (congrArg Value.int e_)
      · refine lv_iload hx hb dX7_near_53 (lv_at hl 0 rfl) ?_
        refine lv_iconst (v := 1) hx hb dX7_near_55 (by decide) ?_
        refine lv_iload_n hx hb dX7_near_56 rfl (lv_at hl 4 rfl) ?_
        refine lv_iconst (v := 1) hx hb dX7_near_57 (by decide) ?_
        refine zr_isubN kk 1 (by omega) hx hb dX7_near_58 ?_
        refine lv_ishl hx hb dX7_near_59 ?_
        refine lv_ior hx hb dX7_near_60 ?_
        refine lv_istore (lv' := [(4, .int (0 ||| ((1 : Int32) <<< ((nI (kk - 1)) &&& 31)))), (3, .int (nI (kk % Wd))), (2, .int (nI Wd)), (0, .ref (ad 0)), (1, .int (nI kk))]) hx hb dX7_near_61 hl (by decide) rfl (fun ls hl => ?_)
        refine lv_goto (tgt := 89) hx hb dX7_near_63 (by decide) ?_
        refine lv_iload_n hx hb dX7_near_89 rfl (lv_at hl 1 rfl) ?_
        refine lv_iconst (v := 1) hx hb dX7_near_90 (by decide) ?_
        refine zr_iaddN (kk % Wd) 1 hx hb dX7_near_91 ?_
        refine lv_iload_n hx hb dX7_near_92 rfl (lv_at hl 2 rfl) ?_
        refine zr_ge ((kk % Wd) + 1) Wd (by omega) (by omega) (tgt := 109) hx hb dX7_near_93 (by decide) (fun c_7 => ?_) (fun c_7 => ?_)
        · refine lv_aload_n hx hb dX7_near_109 rfl (lv_at hl 3 rfl) ?_
          refine va_get (D := G.1) (ci := 7) (v := .ref (ad 1)) (C := RX7) (T := TX7) (N := 39) hx hb hts in_X7 hown hK.1 hP 0 rfl rfl 0 (Nat.le_of_ble_eq_true rfl) (hts _ q1467) (fun _ h => h) rfl dX7_near_110 ?_
          refine lv_bipush (v := 9) hx hb dX7_near_113 (by decide) ?_
          refine zr_iald 9 (v := m_at 9) hx hb hK hP 1 rfl rfl (Nat.le_of_ble_eq_true rfl) rfl (by decide) rfl dX7_near_115 ?_
          refine lv_iconst (v := 1) hx hb dX7_near_116 (by decide) ?_
          refine lv_icmp_ne (tgt := 132) hx hb dX7_near_117 (by decide) (fun c_8 => ?_) (fun c_8 => ?_)
          · refine lv_iload hx hb dX7_near_132 (lv_at hl 0 rfl) ?_
            refine lv_aload_n hx hb dX7_near_134 rfl (lv_at hl 3 rfl) ?_
            refine va_get (D := G.1) (ci := 7) (v := .ref (ad 1)) (C := RX7) (T := TX7) (N := 39) hx hb hts in_X7 hown hK.1 hP 0 rfl rfl 0 (Nat.le_of_ble_eq_true rfl) (hts _ q1467) (fun _ h => h) rfl dX7_near_135 ?_
            refine lv_iconst (v := 2) hx hb dX7_near_138 (by decide) ?_
            refine zr_iald 2 (v := m_at 2) hx hb hK hP 1 rfl rfl (Nat.le_of_ble_eq_true rfl) rfl (by decide) rfl dX7_near_139 ?_
            refine lv_iand hx hb dX7_near_140 ?_
            have e_ : mf_near m_at Wd R kk = (0 ||| ((1 : Int32) <<< ((nI (kk - 1)) &&& 31))) &&& (m_at 2) := by rw [mf_near, if_pos c_1, if_pos c_2, if_neg c_3, if_pos c_7, if_neg c_8]
            exact zr_oi hx hb hr hlocks dX7_near_141 (congrArg Value.int e_)
          · refine lv_iload hx hb dX7_near_120 (lv_at hl 0 rfl) ?_
            refine lv_iconst (v := 1) hx hb dX7_near_122 (by decide) ?_
            refine lv_iload_n hx hb dX7_near_123 rfl (lv_at hl 4 rfl) ?_
            refine lv_iload_n hx hb dX7_near_124 rfl (lv_at hl 2 rfl) ?_
            refine lv_isub hx hb dX7_near_125 ?_
            refine lv_iconst (v := 1) hx hb dX7_near_126 (by decide) ?_
            refine lv_iadd hx hb dX7_near_127 ?_
            refine lv_ishl hx hb dX7_near_128 ?_
            refine lv_ior hx hb dX7_near_129 ?_
            refine lv_istore (lv' := [(4, .int ((0 ||| ((1 : Int32) <<< ((nI (kk - 1)) &&& 31))) ||| ((1 : Int32) <<< ((((nI kk) - (nI Wd)) + 1) &&& 31)))), (3, .int (nI (kk % Wd))), (2, .int (nI Wd)), (0, .ref (ad 0)), (1, .int (nI kk))]) hx hb dX7_near_130 hl (by decide) rfl (fun ls hl => ?_)
            refine lv_iload hx hb dX7_near_132 (lv_at hl 0 rfl) ?_
            refine lv_aload_n hx hb dX7_near_134 rfl (lv_at hl 3 rfl) ?_
            refine va_get (D := G.1) (ci := 7) (v := .ref (ad 1)) (C := RX7) (T := TX7) (N := 39) hx hb hts in_X7 hown hK.1 hP 0 rfl rfl 0 (Nat.le_of_ble_eq_true rfl) (hts _ q1467) (fun _ h => h) rfl dX7_near_135 ?_
            refine lv_iconst (v := 2) hx hb dX7_near_138 (by decide) ?_
            refine zr_iald 2 (v := m_at 2) hx hb hK hP 1 rfl rfl (Nat.le_of_ble_eq_true rfl) rfl (by decide) rfl dX7_near_139 ?_
            refine lv_iand hx hb dX7_near_140 ?_
            have e_ : mf_near m_at Wd R kk = ((0 ||| ((1 : Int32) <<< ((nI (kk - 1)) &&& 31))) ||| ((1 : Int32) <<< ((((nI kk) - (nI Wd)) + 1) &&& 31))) &&& (m_at 2) := by rw [mf_near, if_pos c_1, if_pos c_2, if_neg c_3, if_pos c_7, if_pos c_8]
            exact zr_oi hx hb hr hlocks dX7_near_141 (congrArg Value.int e_)
        · refine lv_iload hx hb dX7_near_96 (lv_at hl 0 rfl) ?_
          refine lv_iconst (v := 1) hx hb dX7_near_98 (by decide) ?_
          refine lv_iload_n hx hb dX7_near_99 rfl (lv_at hl 4 rfl) ?_
          refine lv_iconst (v := 1) hx hb dX7_near_100 (by decide) ?_
          refine zr_iaddN kk 1 hx hb dX7_near_101 ?_
          refine lv_ishl hx hb dX7_near_102 ?_
          refine lv_ior hx hb dX7_near_103 ?_
          refine lv_istore (lv' := [(4, .int ((0 ||| ((1 : Int32) <<< ((nI (kk - 1)) &&& 31))) ||| ((1 : Int32) <<< ((nI (kk + 1)) &&& 31)))), (3, .int (nI (kk % Wd))), (2, .int (nI Wd)), (0, .ref (ad 0)), (1, .int (nI kk))]) hx hb dX7_near_104 hl (by decide) rfl (fun ls hl => ?_)
          refine lv_goto (tgt := 132) hx hb dX7_near_106 (by decide) ?_
          refine lv_iload hx hb dX7_near_132 (lv_at hl 0 rfl) ?_
          refine lv_aload_n hx hb dX7_near_134 rfl (lv_at hl 3 rfl) ?_
          refine va_get (D := G.1) (ci := 7) (v := .ref (ad 1)) (C := RX7) (T := TX7) (N := 39) hx hb hts in_X7 hown hK.1 hP 0 rfl rfl 0 (Nat.le_of_ble_eq_true rfl) (hts _ q1467) (fun _ h => h) rfl dX7_near_135 ?_
          refine lv_iconst (v := 2) hx hb dX7_near_138 (by decide) ?_
          refine zr_iald 2 (v := m_at 2) hx hb hK hP 1 rfl rfl (Nat.le_of_ble_eq_true rfl) rfl (by decide) rfl dX7_near_139 ?_
          refine lv_iand hx hb dX7_near_140 ?_
          have e_ : mf_near m_at Wd R kk = ((0 ||| ((1 : Int32) <<< ((nI (kk - 1)) &&& 31))) ||| ((1 : Int32) <<< ((nI (kk + 1)) &&& 31))) &&& (m_at 2) := by rw [mf_near, if_pos c_1, if_pos c_2, if_neg c_3, if_neg c_7]
          exact zr_oi hx hb hr hlocks dX7_near_141 (congrArg Value.int e_)
    · refine lv_iload hx hb dX7_near_39 (lv_at hl 0 rfl) ?_
      refine lv_iconst (v := 1) hx hb dX7_near_41 (by decide) ?_
      refine lv_iload_n hx hb dX7_near_42 rfl (lv_at hl 4 rfl) ?_
      refine lv_iload_n hx hb dX7_near_43 rfl (lv_at hl 2 rfl) ?_
      refine zr_iaddN kk Wd hx hb dX7_near_44 ?_
      refine lv_ishl hx hb dX7_near_45 ?_
      refine lv_ior hx hb dX7_near_46 ?_
      refine lv_istore (lv' := [(4, .int (0 ||| ((1 : Int32) <<< ((nI (kk + Wd)) &&& 31)))), (3, .int (nI (kk % Wd))), (2, .int (nI Wd)), (0, .ref (ad 0)), (1, .int (nI kk))]) hx hb dX7_near_47 hl (by decide) rfl (fun ls hl => ?_)
      refine lv_iload_n hx hb dX7_near_49 rfl (lv_at hl 1 rfl) ?_
      refine zr_ifleN (kk % Wd) (by omega) (tgt := 66) hx hb dX7_near_50 (by decide) (fun c_9 => ?_) (fun c_9 => ?_)
      · refine lv_aload_n hx hb dX7_near_66 rfl (lv_at hl 3 rfl) ?_
        refine va_get (D := G.1) (ci := 7) (v := .ref (ad 1)) (C := RX7) (T := TX7) (N := 39) hx hb hts in_X7 hown hK.1 hP 0 rfl rfl 0 (Nat.le_of_ble_eq_true rfl) (hts _ q1467) (fun _ h => h) rfl dX7_near_67 ?_
        refine lv_bipush (v := 9) hx hb dX7_near_70 (by decide) ?_
        refine zr_iald 9 (v := m_at 9) hx hb hK hP 1 rfl rfl (Nat.le_of_ble_eq_true rfl) rfl (by decide) rfl dX7_near_72 ?_
        refine lv_iconst (v := 1) hx hb dX7_near_73 (by decide) ?_
        refine lv_icmp_ne (tgt := 89) hx hb dX7_near_74 (by decide) (fun c_10 => ?_) (fun c_10 => ?_)
        · refine lv_iload_n hx hb dX7_near_89 rfl (lv_at hl 1 rfl) ?_
          refine lv_iconst (v := 1) hx hb dX7_near_90 (by decide) ?_
          refine zr_iaddN (kk % Wd) 1 hx hb dX7_near_91 ?_
          refine lv_iload_n hx hb dX7_near_92 rfl (lv_at hl 2 rfl) ?_
          refine zr_ge ((kk % Wd) + 1) Wd (by omega) (by omega) (tgt := 109) hx hb dX7_near_93 (by decide) (fun c_11 => ?_) (fun c_11 => ?_)
          · refine lv_aload_n hx hb dX7_near_109 rfl (lv_at hl 3 rfl) ?_
            refine va_get (D := G.1) (ci := 7) (v := .ref (ad 1)) (C := RX7) (T := TX7) (N := 39) hx hb hts in_X7 hown hK.1 hP 0 rfl rfl 0 (Nat.le_of_ble_eq_true rfl) (hts _ q1467) (fun _ h => h) rfl dX7_near_110 ?_
            refine lv_bipush (v := 9) hx hb dX7_near_113 (by decide) ?_
            refine zr_iald 9 (v := m_at 9) hx hb hK hP 1 rfl rfl (Nat.le_of_ble_eq_true rfl) rfl (by decide) rfl dX7_near_115 ?_
            refine lv_iconst (v := 1) hx hb dX7_near_116 (by decide) ?_
            refine lv_icmp_ne (tgt := 132) hx hb dX7_near_117 (by decide) (fun _ => ?_) (fun z => absurd z c_10)
            refine lv_iload hx hb dX7_near_132 (lv_at hl 0 rfl) ?_
            refine lv_aload_n hx hb dX7_near_134 rfl (lv_at hl 3 rfl) ?_
            refine va_get (D := G.1) (ci := 7) (v := .ref (ad 1)) (C := RX7) (T := TX7) (N := 39) hx hb hts in_X7 hown hK.1 hP 0 rfl rfl 0 (Nat.le_of_ble_eq_true rfl) (hts _ q1467) (fun _ h => h) rfl dX7_near_135 ?_
            refine lv_iconst (v := 2) hx hb dX7_near_138 (by decide) ?_
            refine zr_iald 2 (v := m_at 2) hx hb hK hP 1 rfl rfl (Nat.le_of_ble_eq_true rfl) rfl (by decide) rfl dX7_near_139 ?_
            refine lv_iand hx hb dX7_near_140 ?_
            have e_ : mf_near m_at Wd R kk = (0 ||| ((1 : Int32) <<< ((nI (kk + Wd)) &&& 31))) &&& (m_at 2) := by rw [mf_near, if_pos c_1, if_neg c_2, if_pos c_9, if_neg c_10, if_pos c_11]
            exact zr_oi hx hb hr hlocks dX7_near_141 (congrArg Value.int e_)
          · refine lv_iload hx hb dX7_near_96 (lv_at hl 0 rfl) ?_
            refine lv_iconst (v := 1) hx hb dX7_near_98 (by decide) ?_
            refine lv_iload_n hx hb dX7_near_99 rfl (lv_at hl 4 rfl) ?_
            refine lv_iconst (v := 1) hx hb dX7_near_100 (by decide) ?_
            refine zr_iaddN kk 1 hx hb dX7_near_101 ?_
            refine lv_ishl hx hb dX7_near_102 ?_
            refine lv_ior hx hb dX7_near_103 ?_
            refine lv_istore (lv' := [(4, .int ((0 ||| ((1 : Int32) <<< ((nI (kk + Wd)) &&& 31))) ||| ((1 : Int32) <<< ((nI (kk + 1)) &&& 31)))), (3, .int (nI (kk % Wd))), (2, .int (nI Wd)), (0, .ref (ad 0)), (1, .int (nI kk))]) hx hb dX7_near_104 hl (by decide) rfl (fun ls hl => ?_)
            refine lv_goto (tgt := 132) hx hb dX7_near_106 (by decide) ?_
            refine lv_iload hx hb dX7_near_132 (lv_at hl 0 rfl) ?_
            refine lv_aload_n hx hb dX7_near_134 rfl (lv_at hl 3 rfl) ?_
            refine va_get (D := G.1) (ci := 7) (v := .ref (ad 1)) (C := RX7) (T := TX7) (N := 39) hx hb hts in_X7 hown hK.1 hP 0 rfl rfl 0 (Nat.le_of_ble_eq_true rfl) (hts _ q1467) (fun _ h => h) rfl dX7_near_135 ?_
            refine lv_iconst (v := 2) hx hb dX7_near_138 (by decide) ?_
            refine zr_iald 2 (v := m_at 2) hx hb hK hP 1 rfl rfl (Nat.le_of_ble_eq_true rfl) rfl (by decide) rfl dX7_near_139 ?_
            refine lv_iand hx hb dX7_near_140 ?_
            have e_ : mf_near m_at Wd R kk = ((0 ||| ((1 : Int32) <<< ((nI (kk + Wd)) &&& 31))) ||| ((1 : Int32) <<< ((nI (kk + 1)) &&& 31))) &&& (m_at 2) := by rw [mf_near, if_pos c_1, if_neg c_2, if_pos c_9, if_neg c_10, if_neg c_11]
            exact zr_oi hx hb hr hlocks dX7_near_141 (congrArg Value.int e_)
        · refine lv_iload hx hb dX7_near_77 (lv_at hl 0 rfl) ?_
          refine lv_iconst (v := 1) hx hb dX7_near_79 (by decide) ?_
          refine lv_iload_n hx hb dX7_near_80 rfl (lv_at hl 4 rfl) ?_
          refine lv_iload_n hx hb dX7_near_81 rfl (lv_at hl 2 rfl) ?_
          refine zr_iaddN kk Wd hx hb dX7_near_82 ?_
          refine lv_iconst (v := 1) hx hb dX7_near_83 (by decide) ?_
          refine zr_isubN (kk + Wd) 1 (by omega) hx hb dX7_near_84 ?_
          refine lv_ishl hx hb dX7_near_85 ?_
          refine lv_ior hx hb dX7_near_86 ?_
          refine lv_istore (lv' := [(4, .int ((0 ||| ((1 : Int32) <<< ((nI (kk + Wd)) &&& 31))) ||| ((1 : Int32) <<< ((nI ((kk + Wd) - 1)) &&& 31)))), (3, .int (nI (kk % Wd))), (2, .int (nI Wd)), (0, .ref (ad 0)), (1, .int (nI kk))]) hx hb dX7_near_87 hl (by decide) rfl (fun ls hl => ?_)
          refine lv_iload_n hx hb dX7_near_89 rfl (lv_at hl 1 rfl) ?_
          refine lv_iconst (v := 1) hx hb dX7_near_90 (by decide) ?_
          refine zr_iaddN (kk % Wd) 1 hx hb dX7_near_91 ?_
          refine lv_iload_n hx hb dX7_near_92 rfl (lv_at hl 2 rfl) ?_
          refine zr_ge ((kk % Wd) + 1) Wd (by omega) (by omega) (tgt := 109) hx hb dX7_near_93 (by decide) (fun c_12 => ?_) (fun c_12 => ?_)
          · refine lv_aload_n hx hb dX7_near_109 rfl (lv_at hl 3 rfl) ?_
            refine va_get (D := G.1) (ci := 7) (v := .ref (ad 1)) (C := RX7) (T := TX7) (N := 39) hx hb hts in_X7 hown hK.1 hP 0 rfl rfl 0 (Nat.le_of_ble_eq_true rfl) (hts _ q1467) (fun _ h => h) rfl dX7_near_110 ?_
            refine lv_bipush (v := 9) hx hb dX7_near_113 (by decide) ?_
            refine zr_iald 9 (v := m_at 9) hx hb hK hP 1 rfl rfl (Nat.le_of_ble_eq_true rfl) rfl (by decide) rfl dX7_near_115 ?_
            refine lv_iconst (v := 1) hx hb dX7_near_116 (by decide) ?_
            refine lv_icmp_ne (tgt := 132) hx hb dX7_near_117 (by decide) (fun z => absurd c_10 z) (fun _ => ?_)
            refine lv_iload hx hb dX7_near_120 (lv_at hl 0 rfl) ?_
            refine lv_iconst (v := 1) hx hb dX7_near_122 (by decide) ?_
            refine lv_iload_n hx hb dX7_near_123 rfl (lv_at hl 4 rfl) ?_
            refine lv_iload_n hx hb dX7_near_124 rfl (lv_at hl 2 rfl) ?_
            refine lv_isub hx hb dX7_near_125 ?_
            refine lv_iconst (v := 1) hx hb dX7_near_126 (by decide) ?_
            refine lv_iadd hx hb dX7_near_127 ?_
            refine lv_ishl hx hb dX7_near_128 ?_
            refine lv_ior hx hb dX7_near_129 ?_
            refine lv_istore (lv' := [(4, .int (((0 ||| ((1 : Int32) <<< ((nI (kk + Wd)) &&& 31))) ||| ((1 : Int32) <<< ((nI ((kk + Wd) - 1)) &&& 31))) ||| ((1 : Int32) <<< ((((nI kk) - (nI Wd)) + 1) &&& 31)))), (3, .int (nI (kk % Wd))), (2, .int (nI Wd)), (0, .ref (ad 0)), (1, .int (nI kk))]) hx hb dX7_near_130 hl (by decide) rfl (fun ls hl => ?_)
            refine lv_iload hx hb dX7_near_132 (lv_at hl 0 rfl) ?_
            refine lv_aload_n hx hb dX7_near_134 rfl (lv_at hl 3 rfl) ?_
            refine va_get (D := G.1) (ci := 7) (v := .ref (ad 1)) (C := RX7) (T := TX7) (N := 39) hx hb hts in_X7 hown hK.1 hP 0 rfl rfl 0 (Nat.le_of_ble_eq_true rfl) (hts _ q1467) (fun _ h => h) rfl dX7_near_135 ?_
            refine lv_iconst (v := 2) hx hb dX7_near_138 (by decide) ?_
            refine zr_iald 2 (v := m_at 2) hx hb hK hP 1 rfl rfl (Nat.le_of_ble_eq_true rfl) rfl (by decide) rfl dX7_near_139 ?_
            refine lv_iand hx hb dX7_near_140 ?_
            have e_ : mf_near m_at Wd R kk = (((0 ||| ((1 : Int32) <<< ((nI (kk + Wd)) &&& 31))) ||| ((1 : Int32) <<< ((nI ((kk + Wd) - 1)) &&& 31))) ||| ((1 : Int32) <<< ((((nI kk) - (nI Wd)) + 1) &&& 31))) &&& (m_at 2) := by rw [mf_near, if_pos c_1, if_neg c_2, if_pos c_9, if_pos c_10, if_pos c_12]
            exact zr_oi hx hb hr hlocks dX7_near_141 (congrArg Value.int e_)
          · refine lv_iload hx hb dX7_near_96 (lv_at hl 0 rfl) ?_
            refine lv_iconst (v := 1) hx hb dX7_near_98 (by decide) ?_
            refine lv_iload_n hx hb dX7_near_99 rfl (lv_at hl 4 rfl) ?_
            refine lv_iconst (v := 1) hx hb dX7_near_100 (by decide) ?_
            refine zr_iaddN kk 1 hx hb dX7_near_101 ?_
            refine lv_ishl hx hb dX7_near_102 ?_
            refine lv_ior hx hb dX7_near_103 ?_
            refine lv_istore (lv' := [(4, .int (((0 ||| ((1 : Int32) <<< ((nI (kk + Wd)) &&& 31))) ||| ((1 : Int32) <<< ((nI ((kk + Wd) - 1)) &&& 31))) ||| ((1 : Int32) <<< ((nI (kk + 1)) &&& 31)))), (3, .int (nI (kk % Wd))), (2, .int (nI Wd)), (0, .ref (ad 0)), (1, .int (nI kk))]) hx hb dX7_near_104 hl (by decide) rfl (fun ls hl => ?_)
            refine lv_goto (tgt := 132) hx hb dX7_near_106 (by decide) ?_
            refine lv_iload hx hb dX7_near_132 (lv_at hl 0 rfl) ?_
            refine lv_aload_n hx hb dX7_near_134 rfl (lv_at hl 3 rfl) ?_
            refine va_get (D := G.1) (ci := 7) (v := .ref (ad 1)) (C := RX7) (T := TX7) (N := 39) hx hb hts in_X7 hown hK.1 hP 0 rfl rfl 0 (Nat.le_of_ble_eq_true rfl) (hts _ q1467) (fun _ h => h) rfl dX7_near_135 ?_
            refine lv_iconst (v := 2) hx hb dX7_near_138 (by decide) ?_
            refine zr_iald 2 (v := m_at 2) hx hb hK hP 1 rfl rfl (Nat.le_of_ble_eq_true rfl) rfl (by decide) rfl dX7_near_139 ?_
            refine lv_iand hx hb dX7_near_140 ?_
            have e_ : mf_near m_at Wd R kk = (((0 ||| ((1 : Int32) <<< ((nI (kk + Wd)) &&& 31))) ||| ((1 : Int32) <<< ((nI ((kk + Wd) - 1)) &&& 31))) ||| ((1 : Int32) <<< ((nI (kk + 1)) &&& 31))) &&& (m_at 2) := by rw [mf_near, if_pos c_1, if_neg c_2, if_pos c_9, if_pos c_10, if_neg c_12]
            exact zr_oi hx hb hr hlocks dX7_near_141 (congrArg Value.int e_)
      · refine lv_iload hx hb dX7_near_53 (lv_at hl 0 rfl) ?_
        refine lv_iconst (v := 1) hx hb dX7_near_55 (by decide) ?_
        refine lv_iload_n hx hb dX7_near_56 rfl (lv_at hl 4 rfl) ?_
        refine lv_iconst (v := 1) hx hb dX7_near_57 (by decide) ?_
        refine zr_isubN kk 1 (by omega) hx hb dX7_near_58 ?_
        refine lv_ishl hx hb dX7_near_59 ?_
        refine lv_ior hx hb dX7_near_60 ?_
        refine lv_istore (lv' := [(4, .int ((0 ||| ((1 : Int32) <<< ((nI (kk + Wd)) &&& 31))) ||| ((1 : Int32) <<< ((nI (kk - 1)) &&& 31)))), (3, .int (nI (kk % Wd))), (2, .int (nI Wd)), (0, .ref (ad 0)), (1, .int (nI kk))]) hx hb dX7_near_61 hl (by decide) rfl (fun ls hl => ?_)
        refine lv_goto (tgt := 89) hx hb dX7_near_63 (by decide) ?_
        refine lv_iload_n hx hb dX7_near_89 rfl (lv_at hl 1 rfl) ?_
        refine lv_iconst (v := 1) hx hb dX7_near_90 (by decide) ?_
        refine zr_iaddN (kk % Wd) 1 hx hb dX7_near_91 ?_
        refine lv_iload_n hx hb dX7_near_92 rfl (lv_at hl 2 rfl) ?_
        refine zr_ge ((kk % Wd) + 1) Wd (by omega) (by omega) (tgt := 109) hx hb dX7_near_93 (by decide) (fun c_13 => ?_) (fun c_13 => ?_)
        · refine lv_aload_n hx hb dX7_near_109 rfl (lv_at hl 3 rfl) ?_
          refine va_get (D := G.1) (ci := 7) (v := .ref (ad 1)) (C := RX7) (T := TX7) (N := 39) hx hb hts in_X7 hown hK.1 hP 0 rfl rfl 0 (Nat.le_of_ble_eq_true rfl) (hts _ q1467) (fun _ h => h) rfl dX7_near_110 ?_
          refine lv_bipush (v := 9) hx hb dX7_near_113 (by decide) ?_
          refine zr_iald 9 (v := m_at 9) hx hb hK hP 1 rfl rfl (Nat.le_of_ble_eq_true rfl) rfl (by decide) rfl dX7_near_115 ?_
          refine lv_iconst (v := 1) hx hb dX7_near_116 (by decide) ?_
          refine lv_icmp_ne (tgt := 132) hx hb dX7_near_117 (by decide) (fun c_14 => ?_) (fun c_14 => ?_)
          · refine lv_iload hx hb dX7_near_132 (lv_at hl 0 rfl) ?_
            refine lv_aload_n hx hb dX7_near_134 rfl (lv_at hl 3 rfl) ?_
            refine va_get (D := G.1) (ci := 7) (v := .ref (ad 1)) (C := RX7) (T := TX7) (N := 39) hx hb hts in_X7 hown hK.1 hP 0 rfl rfl 0 (Nat.le_of_ble_eq_true rfl) (hts _ q1467) (fun _ h => h) rfl dX7_near_135 ?_
            refine lv_iconst (v := 2) hx hb dX7_near_138 (by decide) ?_
            refine zr_iald 2 (v := m_at 2) hx hb hK hP 1 rfl rfl (Nat.le_of_ble_eq_true rfl) rfl (by decide) rfl dX7_near_139 ?_
            refine lv_iand hx hb dX7_near_140 ?_
            have e_ : mf_near m_at Wd R kk = ((0 ||| ((1 : Int32) <<< ((nI (kk + Wd)) &&& 31))) ||| ((1 : Int32) <<< ((nI (kk - 1)) &&& 31))) &&& (m_at 2) := by rw [mf_near, if_pos c_1, if_neg c_2, if_neg c_9, if_pos c_13, if_neg c_14]
            exact zr_oi hx hb hr hlocks dX7_near_141 (congrArg Value.int e_)
          · refine lv_iload hx hb dX7_near_120 (lv_at hl 0 rfl) ?_
            refine lv_iconst (v := 1) hx hb dX7_near_122 (by decide) ?_
            refine lv_iload_n hx hb dX7_near_123 rfl (lv_at hl 4 rfl) ?_
            refine lv_iload_n hx hb dX7_near_124 rfl (lv_at hl 2 rfl) ?_
            refine lv_isub hx hb dX7_near_125 ?_
            refine lv_iconst (v := 1) hx hb dX7_near_126 (by decide) ?_
            refine lv_iadd hx hb dX7_near_127 ?_
            refine lv_ishl hx hb dX7_near_128 ?_
            refine lv_ior hx hb dX7_near_129 ?_
            refine lv_istore (lv' := [(4, .int (((0 ||| ((1 : Int32) <<< ((nI (kk + Wd)) &&& 31))) ||| ((1 : Int32) <<< ((nI (kk - 1)) &&& 31))) ||| ((1 : Int32) <<< ((((nI kk) - (nI Wd)) + 1) &&& 31)))), (3, .int (nI (kk % Wd))), (2, .int (nI Wd)), (0, .ref (ad 0)), (1, .int (nI kk))]) hx hb dX7_near_130 hl (by decide) rfl (fun ls hl => ?_)
            refine lv_iload hx hb dX7_near_132 (lv_at hl 0 rfl) ?_
            refine lv_aload_n hx hb dX7_near_134 rfl (lv_at hl 3 rfl) ?_
            refine va_get (D := G.1) (ci := 7) (v := .ref (ad 1)) (C := RX7) (T := TX7) (N := 39) hx hb hts in_X7 hown hK.1 hP 0 rfl rfl 0 (Nat.le_of_ble_eq_true rfl) (hts _ q1467) (fun _ h => h) rfl dX7_near_135 ?_
            refine lv_iconst (v := 2) hx hb dX7_near_138 (by decide) ?_
            refine zr_iald 2 (v := m_at 2) hx hb hK hP 1 rfl rfl (Nat.le_of_ble_eq_true rfl) rfl (by decide) rfl dX7_near_139 ?_
            refine lv_iand hx hb dX7_near_140 ?_
            have e_ : mf_near m_at Wd R kk = (((0 ||| ((1 : Int32) <<< ((nI (kk + Wd)) &&& 31))) ||| ((1 : Int32) <<< ((nI (kk - 1)) &&& 31))) ||| ((1 : Int32) <<< ((((nI kk) - (nI Wd)) + 1) &&& 31))) &&& (m_at 2) := by rw [mf_near, if_pos c_1, if_neg c_2, if_neg c_9, if_pos c_13, if_pos c_14]
            exact zr_oi hx hb hr hlocks dX7_near_141 (congrArg Value.int e_)
        · refine lv_iload hx hb dX7_near_96 (lv_at hl 0 rfl) ?_
          refine lv_iconst (v := 1) hx hb dX7_near_98 (by decide) ?_
          refine lv_iload_n hx hb dX7_near_99 rfl (lv_at hl 4 rfl) ?_
          refine lv_iconst (v := 1) hx hb dX7_near_100 (by decide) ?_
          refine zr_iaddN kk 1 hx hb dX7_near_101 ?_
          refine lv_ishl hx hb dX7_near_102 ?_
          refine lv_ior hx hb dX7_near_103 ?_
          refine lv_istore (lv' := [(4, .int (((0 ||| ((1 : Int32) <<< ((nI (kk + Wd)) &&& 31))) ||| ((1 : Int32) <<< ((nI (kk - 1)) &&& 31))) ||| ((1 : Int32) <<< ((nI (kk + 1)) &&& 31)))), (3, .int (nI (kk % Wd))), (2, .int (nI Wd)), (0, .ref (ad 0)), (1, .int (nI kk))]) hx hb dX7_near_104 hl (by decide) rfl (fun ls hl => ?_)
          refine lv_goto (tgt := 132) hx hb dX7_near_106 (by decide) ?_
          refine lv_iload hx hb dX7_near_132 (lv_at hl 0 rfl) ?_
          refine lv_aload_n hx hb dX7_near_134 rfl (lv_at hl 3 rfl) ?_
          refine va_get (D := G.1) (ci := 7) (v := .ref (ad 1)) (C := RX7) (T := TX7) (N := 39) hx hb hts in_X7 hown hK.1 hP 0 rfl rfl 0 (Nat.le_of_ble_eq_true rfl) (hts _ q1467) (fun _ h => h) rfl dX7_near_135 ?_
          refine lv_iconst (v := 2) hx hb dX7_near_138 (by decide) ?_
          refine zr_iald 2 (v := m_at 2) hx hb hK hP 1 rfl rfl (Nat.le_of_ble_eq_true rfl) rfl (by decide) rfl dX7_near_139 ?_
          refine lv_iand hx hb dX7_near_140 ?_
          have e_ : mf_near m_at Wd R kk = (((0 ||| ((1 : Int32) <<< ((nI (kk + Wd)) &&& 31))) ||| ((1 : Int32) <<< ((nI (kk - 1)) &&& 31))) ||| ((1 : Int32) <<< ((nI (kk + 1)) &&& 31))) &&& (m_at 2) := by rw [mf_near, if_pos c_1, if_neg c_2, if_neg c_9, if_neg c_13]
          exact zr_oi hx hb hr hlocks dX7_near_141 (congrArg Value.int e_)
  · refine lv_iload hx hb dX7_near_19 (lv_at hl 0 rfl) ?_
    refine lv_iconst (v := 1) hx hb dX7_near_21 (by decide) ?_
    refine lv_iload_n hx hb dX7_near_22 rfl (lv_at hl 4 rfl) ?_
    refine lv_iload_n hx hb dX7_near_23 rfl (lv_at hl 2 rfl) ?_
    refine zr_isubN kk Wd (by omega) hx hb dX7_near_24 ?_
    refine lv_ishl hx hb dX7_near_25 ?_
    refine lv_ior hx hb dX7_near_26 ?_
    refine lv_istore (lv' := [(4, .int (0 ||| ((1 : Int32) <<< ((nI (kk - Wd)) &&& 31)))), (3, .int (nI (kk % Wd))), (2, .int (nI Wd)), (0, .ref (ad 0)), (1, .int (nI kk))]) hx hb dX7_near_27 hl (by decide) rfl (fun ls hl => ?_)
    refine lv_iload_n hx hb dX7_near_29 rfl (lv_at hl 4 rfl) ?_
    refine lv_iload_n hx hb dX7_near_30 rfl (lv_at hl 2 rfl) ?_
    refine zr_iaddN kk Wd hx hb dX7_near_31 ?_
    refine lv_aload_n hx hb dX7_near_32 rfl (lv_at hl 3 rfl) ?_
    refine zr_obV ⟨hx, hb, hml, hown, hts⟩ (mt_mf_places l G ad m_status m_top m_bottom m_taped m_size m_token m_from m_end m_value m_faultKind m_faultPlace m_faults m_seen m_depth m_counted m_lead m_round m_tried m_triedMany m_drawn m_ranSteps m_isTold m_marks m_at m_names m_sort m_trayMany m_trays m_tape m_text m_opened m_beside m_then m_ways m_further m_canBe m_loops m_ran m_told0 Wd R nr nc hG) (cwV 0 hts (lw_V q1815 q1817 qs97 q144 q1818) rfl rfl rfl hd_X7_places ⟨(Nat.le_of_ble_eq_true rfl), (Nat.le_of_ble_eq_true rfl)⟩) hP hK hE 0 7 rfl rfl rfl hl.1 rfl (Nat.le_of_ble_eq_true rfl) dX7_near_33 ⟨Nat.le_refl _, Nat.le_refl _⟩ ?_
    refine zr_ge (kk + Wd) (Wd * R) (by omega) (by omega) (tgt := 49) hx hb dX7_near_36 (by decide) (fun c_15 => ?_) (fun c_15 => ?_)
    · refine lv_iload_n hx hb dX7_near_49 rfl (lv_at hl 1 rfl) ?_
      refine zr_ifleN (kk % Wd) (by omega) (tgt := 66) hx hb dX7_near_50 (by decide) (fun c_16 => ?_) (fun c_16 => ?_)
      · refine lv_aload_n hx hb dX7_near_66 rfl (lv_at hl 3 rfl) ?_
        refine va_get (D := G.1) (ci := 7) (v := .ref (ad 1)) (C := RX7) (T := TX7) (N := 39) hx hb hts in_X7 hown hK.1 hP 0 rfl rfl 0 (Nat.le_of_ble_eq_true rfl) (hts _ q1467) (fun _ h => h) rfl dX7_near_67 ?_
        refine lv_bipush (v := 9) hx hb dX7_near_70 (by decide) ?_
        refine zr_iald 9 (v := m_at 9) hx hb hK hP 1 rfl rfl (Nat.le_of_ble_eq_true rfl) rfl (by decide) rfl dX7_near_72 ?_
        refine lv_iconst (v := 1) hx hb dX7_near_73 (by decide) ?_
        refine lv_icmp_ne (tgt := 89) hx hb dX7_near_74 (by decide) (fun c_17 => ?_) (fun c_17 => ?_)
        · refine lv_iload_n hx hb dX7_near_89 rfl (lv_at hl 1 rfl) ?_
          refine lv_iconst (v := 1) hx hb dX7_near_90 (by decide) ?_
          refine zr_iaddN (kk % Wd) 1 hx hb dX7_near_91 ?_
          refine lv_iload_n hx hb dX7_near_92 rfl (lv_at hl 2 rfl) ?_
          refine zr_ge ((kk % Wd) + 1) Wd (by omega) (by omega) (tgt := 109) hx hb dX7_near_93 (by decide) (fun c_18 => ?_) (fun c_18 => ?_)
          · refine lv_aload_n hx hb dX7_near_109 rfl (lv_at hl 3 rfl) ?_
            refine va_get (D := G.1) (ci := 7) (v := .ref (ad 1)) (C := RX7) (T := TX7) (N := 39) hx hb hts in_X7 hown hK.1 hP 0 rfl rfl 0 (Nat.le_of_ble_eq_true rfl) (hts _ q1467) (fun _ h => h) rfl dX7_near_110 ?_
            refine lv_bipush (v := 9) hx hb dX7_near_113 (by decide) ?_
            refine zr_iald 9 (v := m_at 9) hx hb hK hP 1 rfl rfl (Nat.le_of_ble_eq_true rfl) rfl (by decide) rfl dX7_near_115 ?_
            refine lv_iconst (v := 1) hx hb dX7_near_116 (by decide) ?_
            refine lv_icmp_ne (tgt := 132) hx hb dX7_near_117 (by decide) (fun _ => ?_) (fun z => absurd z c_17)
            refine lv_iload hx hb dX7_near_132 (lv_at hl 0 rfl) ?_
            refine lv_aload_n hx hb dX7_near_134 rfl (lv_at hl 3 rfl) ?_
            refine va_get (D := G.1) (ci := 7) (v := .ref (ad 1)) (C := RX7) (T := TX7) (N := 39) hx hb hts in_X7 hown hK.1 hP 0 rfl rfl 0 (Nat.le_of_ble_eq_true rfl) (hts _ q1467) (fun _ h => h) rfl dX7_near_135 ?_
            refine lv_iconst (v := 2) hx hb dX7_near_138 (by decide) ?_
            refine zr_iald 2 (v := m_at 2) hx hb hK hP 1 rfl rfl (Nat.le_of_ble_eq_true rfl) rfl (by decide) rfl dX7_near_139 ?_
            refine lv_iand hx hb dX7_near_140 ?_
            have e_ : mf_near m_at Wd R kk = (0 ||| ((1 : Int32) <<< ((nI (kk - Wd)) &&& 31))) &&& (m_at 2) := by rw [mf_near, if_neg c_1, if_pos c_15, if_pos c_16, if_neg c_17, if_pos c_18]
            exact zr_oi hx hb hr hlocks dX7_near_141 (congrArg Value.int e_)
          · refine lv_iload hx hb dX7_near_96 (lv_at hl 0 rfl) ?_
            refine lv_iconst (v := 1) hx hb dX7_near_98 (by decide) ?_
            refine lv_iload_n hx hb dX7_near_99 rfl (lv_at hl 4 rfl) ?_
            refine lv_iconst (v := 1) hx hb dX7_near_100 (by decide) ?_
            refine zr_iaddN kk 1 hx hb dX7_near_101 ?_
            refine lv_ishl hx hb dX7_near_102 ?_
            refine lv_ior hx hb dX7_near_103 ?_
            refine lv_istore (lv' := [(4, .int ((0 ||| ((1 : Int32) <<< ((nI (kk - Wd)) &&& 31))) ||| ((1 : Int32) <<< ((nI (kk + 1)) &&& 31)))), (3, .int (nI (kk % Wd))), (2, .int (nI Wd)), (0, .ref (ad 0)), (1, .int (nI kk))]) hx hb dX7_near_104 hl (by decide) rfl (fun ls hl => ?_)
            refine lv_goto (tgt := 132) hx hb dX7_near_106 (by decide) ?_
            refine lv_iload hx hb dX7_near_132 (lv_at hl 0 rfl) ?_
            refine lv_aload_n hx hb dX7_near_134 rfl (lv_at hl 3 rfl) ?_
            refine va_get (D := G.1) (ci := 7) (v := .ref (ad 1)) (C := RX7) (T := TX7) (N := 39) hx hb hts in_X7 hown hK.1 hP 0 rfl rfl 0 (Nat.le_of_ble_eq_true rfl) (hts _ q1467) (fun _ h => h) rfl dX7_near_135 ?_
            refine lv_iconst (v := 2) hx hb dX7_near_138 (by decide) ?_
            refine zr_iald 2 (v := m_at 2) hx hb hK hP 1 rfl rfl (Nat.le_of_ble_eq_true rfl) rfl (by decide) rfl dX7_near_139 ?_
            refine lv_iand hx hb dX7_near_140 ?_
            have e_ : mf_near m_at Wd R kk = ((0 ||| ((1 : Int32) <<< ((nI (kk - Wd)) &&& 31))) ||| ((1 : Int32) <<< ((nI (kk + 1)) &&& 31))) &&& (m_at 2) := by rw [mf_near, if_neg c_1, if_pos c_15, if_pos c_16, if_neg c_17, if_neg c_18]
            exact zr_oi hx hb hr hlocks dX7_near_141 (congrArg Value.int e_)
        · refine lv_iload hx hb dX7_near_77 (lv_at hl 0 rfl) ?_
          refine lv_iconst (v := 1) hx hb dX7_near_79 (by decide) ?_
          refine lv_iload_n hx hb dX7_near_80 rfl (lv_at hl 4 rfl) ?_
          refine lv_iload_n hx hb dX7_near_81 rfl (lv_at hl 2 rfl) ?_
          refine zr_iaddN kk Wd hx hb dX7_near_82 ?_
          refine lv_iconst (v := 1) hx hb dX7_near_83 (by decide) ?_
          refine zr_isubN (kk + Wd) 1 (by omega) hx hb dX7_near_84 ?_
          refine lv_ishl hx hb dX7_near_85 ?_
          refine lv_ior hx hb dX7_near_86 ?_
          refine lv_istore (lv' := [(4, .int ((0 ||| ((1 : Int32) <<< ((nI (kk - Wd)) &&& 31))) ||| ((1 : Int32) <<< ((nI ((kk + Wd) - 1)) &&& 31)))), (3, .int (nI (kk % Wd))), (2, .int (nI Wd)), (0, .ref (ad 0)), (1, .int (nI kk))]) hx hb dX7_near_87 hl (by decide) rfl (fun ls hl => ?_)
          refine lv_iload_n hx hb dX7_near_89 rfl (lv_at hl 1 rfl) ?_
          refine lv_iconst (v := 1) hx hb dX7_near_90 (by decide) ?_
          refine zr_iaddN (kk % Wd) 1 hx hb dX7_near_91 ?_
          refine lv_iload_n hx hb dX7_near_92 rfl (lv_at hl 2 rfl) ?_
          refine zr_ge ((kk % Wd) + 1) Wd (by omega) (by omega) (tgt := 109) hx hb dX7_near_93 (by decide) (fun c_19 => ?_) (fun c_19 => ?_)
          · refine lv_aload_n hx hb dX7_near_109 rfl (lv_at hl 3 rfl) ?_
            refine va_get (D := G.1) (ci := 7) (v := .ref (ad 1)) (C := RX7) (T := TX7) (N := 39) hx hb hts in_X7 hown hK.1 hP 0 rfl rfl 0 (Nat.le_of_ble_eq_true rfl) (hts _ q1467) (fun _ h => h) rfl dX7_near_110 ?_
            refine lv_bipush (v := 9) hx hb dX7_near_113 (by decide) ?_
            refine zr_iald 9 (v := m_at 9) hx hb hK hP 1 rfl rfl (Nat.le_of_ble_eq_true rfl) rfl (by decide) rfl dX7_near_115 ?_
            refine lv_iconst (v := 1) hx hb dX7_near_116 (by decide) ?_
            refine lv_icmp_ne (tgt := 132) hx hb dX7_near_117 (by decide) (fun z => absurd c_17 z) (fun _ => ?_)
            refine lv_iload hx hb dX7_near_120 (lv_at hl 0 rfl) ?_
            refine lv_iconst (v := 1) hx hb dX7_near_122 (by decide) ?_
            refine lv_iload_n hx hb dX7_near_123 rfl (lv_at hl 4 rfl) ?_
            refine lv_iload_n hx hb dX7_near_124 rfl (lv_at hl 2 rfl) ?_
            refine lv_isub hx hb dX7_near_125 ?_
            refine lv_iconst (v := 1) hx hb dX7_near_126 (by decide) ?_
            refine lv_iadd hx hb dX7_near_127 ?_
            refine lv_ishl hx hb dX7_near_128 ?_
            refine lv_ior hx hb dX7_near_129 ?_
            refine lv_istore (lv' := [(4, .int (((0 ||| ((1 : Int32) <<< ((nI (kk - Wd)) &&& 31))) ||| ((1 : Int32) <<< ((nI ((kk + Wd) - 1)) &&& 31))) ||| ((1 : Int32) <<< ((((nI kk) - (nI Wd)) + 1) &&& 31)))), (3, .int (nI (kk % Wd))), (2, .int (nI Wd)), (0, .ref (ad 0)), (1, .int (nI kk))]) hx hb dX7_near_130 hl (by decide) rfl (fun ls hl => ?_)
            refine lv_iload hx hb dX7_near_132 (lv_at hl 0 rfl) ?_
            refine lv_aload_n hx hb dX7_near_134 rfl (lv_at hl 3 rfl) ?_
            refine va_get (D := G.1) (ci := 7) (v := .ref (ad 1)) (C := RX7) (T := TX7) (N := 39) hx hb hts in_X7 hown hK.1 hP 0 rfl rfl 0 (Nat.le_of_ble_eq_true rfl) (hts _ q1467) (fun _ h => h) rfl dX7_near_135 ?_
            refine lv_iconst (v := 2) hx hb dX7_near_138 (by decide) ?_
            refine zr_iald 2 (v := m_at 2) hx hb hK hP 1 rfl rfl (Nat.le_of_ble_eq_true rfl) rfl (by decide) rfl dX7_near_139 ?_
            refine lv_iand hx hb dX7_near_140 ?_
            have e_ : mf_near m_at Wd R kk = (((0 ||| ((1 : Int32) <<< ((nI (kk - Wd)) &&& 31))) ||| ((1 : Int32) <<< ((nI ((kk + Wd) - 1)) &&& 31))) ||| ((1 : Int32) <<< ((((nI kk) - (nI Wd)) + 1) &&& 31))) &&& (m_at 2) := by rw [mf_near, if_neg c_1, if_pos c_15, if_pos c_16, if_pos c_17, if_pos c_19]
            exact zr_oi hx hb hr hlocks dX7_near_141 (congrArg Value.int e_)
          · refine lv_iload hx hb dX7_near_96 (lv_at hl 0 rfl) ?_
            refine lv_iconst (v := 1) hx hb dX7_near_98 (by decide) ?_
            refine lv_iload_n hx hb dX7_near_99 rfl (lv_at hl 4 rfl) ?_
            refine lv_iconst (v := 1) hx hb dX7_near_100 (by decide) ?_
            refine zr_iaddN kk 1 hx hb dX7_near_101 ?_
            refine lv_ishl hx hb dX7_near_102 ?_
            refine lv_ior hx hb dX7_near_103 ?_
            refine lv_istore (lv' := [(4, .int (((0 ||| ((1 : Int32) <<< ((nI (kk - Wd)) &&& 31))) ||| ((1 : Int32) <<< ((nI ((kk + Wd) - 1)) &&& 31))) ||| ((1 : Int32) <<< ((nI (kk + 1)) &&& 31)))), (3, .int (nI (kk % Wd))), (2, .int (nI Wd)), (0, .ref (ad 0)), (1, .int (nI kk))]) hx hb dX7_near_104 hl (by decide) rfl (fun ls hl => ?_)
            refine lv_goto (tgt := 132) hx hb dX7_near_106 (by decide) ?_
            refine lv_iload hx hb dX7_near_132 (lv_at hl 0 rfl) ?_
            refine lv_aload_n hx hb dX7_near_134 rfl (lv_at hl 3 rfl) ?_
            refine va_get (D := G.1) (ci := 7) (v := .ref (ad 1)) (C := RX7) (T := TX7) (N := 39) hx hb hts in_X7 hown hK.1 hP 0 rfl rfl 0 (Nat.le_of_ble_eq_true rfl) (hts _ q1467) (fun _ h => h) rfl dX7_near_135 ?_
            refine lv_iconst (v := 2) hx hb dX7_near_138 (by decide) ?_
            refine zr_iald 2 (v := m_at 2) hx hb hK hP 1 rfl rfl (Nat.le_of_ble_eq_true rfl) rfl (by decide) rfl dX7_near_139 ?_
            refine lv_iand hx hb dX7_near_140 ?_
            have e_ : mf_near m_at Wd R kk = (((0 ||| ((1 : Int32) <<< ((nI (kk - Wd)) &&& 31))) ||| ((1 : Int32) <<< ((nI ((kk + Wd) - 1)) &&& 31))) ||| ((1 : Int32) <<< ((nI (kk + 1)) &&& 31))) &&& (m_at 2) := by rw [mf_near, if_neg c_1, if_pos c_15, if_pos c_16, if_pos c_17, if_neg c_19]
            exact zr_oi hx hb hr hlocks dX7_near_141 (congrArg Value.int e_)
      · refine lv_iload hx hb dX7_near_53 (lv_at hl 0 rfl) ?_
        refine lv_iconst (v := 1) hx hb dX7_near_55 (by decide) ?_
        refine lv_iload_n hx hb dX7_near_56 rfl (lv_at hl 4 rfl) ?_
        refine lv_iconst (v := 1) hx hb dX7_near_57 (by decide) ?_
        refine zr_isubN kk 1 (by omega) hx hb dX7_near_58 ?_
        refine lv_ishl hx hb dX7_near_59 ?_
        refine lv_ior hx hb dX7_near_60 ?_
        refine lv_istore (lv' := [(4, .int ((0 ||| ((1 : Int32) <<< ((nI (kk - Wd)) &&& 31))) ||| ((1 : Int32) <<< ((nI (kk - 1)) &&& 31)))), (3, .int (nI (kk % Wd))), (2, .int (nI Wd)), (0, .ref (ad 0)), (1, .int (nI kk))]) hx hb dX7_near_61 hl (by decide) rfl (fun ls hl => ?_)
        refine lv_goto (tgt := 89) hx hb dX7_near_63 (by decide) ?_
        refine lv_iload_n hx hb dX7_near_89 rfl (lv_at hl 1 rfl) ?_
        refine lv_iconst (v := 1) hx hb dX7_near_90 (by decide) ?_
        refine zr_iaddN (kk % Wd) 1 hx hb dX7_near_91 ?_
        refine lv_iload_n hx hb dX7_near_92 rfl (lv_at hl 2 rfl) ?_
        refine zr_ge ((kk % Wd) + 1) Wd (by omega) (by omega) (tgt := 109) hx hb dX7_near_93 (by decide) (fun c_20 => ?_) (fun c_20 => ?_)
        · refine lv_aload_n hx hb dX7_near_109 rfl (lv_at hl 3 rfl) ?_
          refine va_get (D := G.1) (ci := 7) (v := .ref (ad 1)) (C := RX7) (T := TX7) (N := 39) hx hb hts in_X7 hown hK.1 hP 0 rfl rfl 0 (Nat.le_of_ble_eq_true rfl) (hts _ q1467) (fun _ h => h) rfl dX7_near_110 ?_
          refine lv_bipush (v := 9) hx hb dX7_near_113 (by decide) ?_
          refine zr_iald 9 (v := m_at 9) hx hb hK hP 1 rfl rfl (Nat.le_of_ble_eq_true rfl) rfl (by decide) rfl dX7_near_115 ?_
          refine lv_iconst (v := 1) hx hb dX7_near_116 (by decide) ?_
          refine lv_icmp_ne (tgt := 132) hx hb dX7_near_117 (by decide) (fun c_21 => ?_) (fun c_21 => ?_)
          · refine lv_iload hx hb dX7_near_132 (lv_at hl 0 rfl) ?_
            refine lv_aload_n hx hb dX7_near_134 rfl (lv_at hl 3 rfl) ?_
            refine va_get (D := G.1) (ci := 7) (v := .ref (ad 1)) (C := RX7) (T := TX7) (N := 39) hx hb hts in_X7 hown hK.1 hP 0 rfl rfl 0 (Nat.le_of_ble_eq_true rfl) (hts _ q1467) (fun _ h => h) rfl dX7_near_135 ?_
            refine lv_iconst (v := 2) hx hb dX7_near_138 (by decide) ?_
            refine zr_iald 2 (v := m_at 2) hx hb hK hP 1 rfl rfl (Nat.le_of_ble_eq_true rfl) rfl (by decide) rfl dX7_near_139 ?_
            refine lv_iand hx hb dX7_near_140 ?_
            have e_ : mf_near m_at Wd R kk = ((0 ||| ((1 : Int32) <<< ((nI (kk - Wd)) &&& 31))) ||| ((1 : Int32) <<< ((nI (kk - 1)) &&& 31))) &&& (m_at 2) := by rw [mf_near, if_neg c_1, if_pos c_15, if_neg c_16, if_pos c_20, if_neg c_21]
            exact zr_oi hx hb hr hlocks dX7_near_141 (congrArg Value.int e_)
          · refine lv_iload hx hb dX7_near_120 (lv_at hl 0 rfl) ?_
            refine lv_iconst (v := 1) hx hb dX7_near_122 (by decide) ?_
            refine lv_iload_n hx hb dX7_near_123 rfl (lv_at hl 4 rfl) ?_
            refine lv_iload_n hx hb dX7_near_124 rfl (lv_at hl 2 rfl) ?_
            refine lv_isub hx hb dX7_near_125 ?_
            refine lv_iconst (v := 1) hx hb dX7_near_126 (by decide) ?_
            refine lv_iadd hx hb dX7_near_127 ?_
            refine lv_ishl hx hb dX7_near_128 ?_
            refine lv_ior hx hb dX7_near_129 ?_
            refine lv_istore (lv' := [(4, .int (((0 ||| ((1 : Int32) <<< ((nI (kk - Wd)) &&& 31))) ||| ((1 : Int32) <<< ((nI (kk - 1)) &&& 31))) ||| ((1 : Int32) <<< ((((nI kk) - (nI Wd)) + 1) &&& 31)))), (3, .int (nI (kk % Wd))), (2, .int (nI Wd)), (0, .ref (ad 0)), (1, .int (nI kk))]) hx hb dX7_near_130 hl (by decide) rfl (fun ls hl => ?_)
            refine lv_iload hx hb dX7_near_132 (lv_at hl 0 rfl) ?_
            refine lv_aload_n hx hb dX7_near_134 rfl (lv_at hl 3 rfl) ?_
            refine va_get (D := G.1) (ci := 7) (v := .ref (ad 1)) (C := RX7) (T := TX7) (N := 39) hx hb hts in_X7 hown hK.1 hP 0 rfl rfl 0 (Nat.le_of_ble_eq_true rfl) (hts _ q1467) (fun _ h => h) rfl dX7_near_135 ?_
            refine lv_iconst (v := 2) hx hb dX7_near_138 (by decide) ?_
            refine zr_iald 2 (v := m_at 2) hx hb hK hP 1 rfl rfl (Nat.le_of_ble_eq_true rfl) rfl (by decide) rfl dX7_near_139 ?_
            refine lv_iand hx hb dX7_near_140 ?_
            have e_ : mf_near m_at Wd R kk = (((0 ||| ((1 : Int32) <<< ((nI (kk - Wd)) &&& 31))) ||| ((1 : Int32) <<< ((nI (kk - 1)) &&& 31))) ||| ((1 : Int32) <<< ((((nI kk) - (nI Wd)) + 1) &&& 31))) &&& (m_at 2) := by rw [mf_near, if_neg c_1, if_pos c_15, if_neg c_16, if_pos c_20, if_pos c_21]
            exact zr_oi hx hb hr hlocks dX7_near_141 (congrArg Value.int e_)
        · refine lv_iload hx hb dX7_near_96 (lv_at hl 0 rfl) ?_
          refine lv_iconst (v := 1) hx hb dX7_near_98 (by decide) ?_
          refine lv_iload_n hx hb dX7_near_99 rfl (lv_at hl 4 rfl) ?_
          refine lv_iconst (v := 1) hx hb dX7_near_100 (by decide) ?_
          refine zr_iaddN kk 1 hx hb dX7_near_101 ?_
          refine lv_ishl hx hb dX7_near_102 ?_
          refine lv_ior hx hb dX7_near_103 ?_
          refine lv_istore (lv' := [(4, .int (((0 ||| ((1 : Int32) <<< ((nI (kk - Wd)) &&& 31))) ||| ((1 : Int32) <<< ((nI (kk - 1)) &&& 31))) ||| ((1 : Int32) <<< ((nI (kk + 1)) &&& 31)))), (3, .int (nI (kk % Wd))), (2, .int (nI Wd)), (0, .ref (ad 0)), (1, .int (nI kk))]) hx hb dX7_near_104 hl (by decide) rfl (fun ls hl => ?_)
          refine lv_goto (tgt := 132) hx hb dX7_near_106 (by decide) ?_
          refine lv_iload hx hb dX7_near_132 (lv_at hl 0 rfl) ?_
          refine lv_aload_n hx hb dX7_near_134 rfl (lv_at hl 3 rfl) ?_
          refine va_get (D := G.1) (ci := 7) (v := .ref (ad 1)) (C := RX7) (T := TX7) (N := 39) hx hb hts in_X7 hown hK.1 hP 0 rfl rfl 0 (Nat.le_of_ble_eq_true rfl) (hts _ q1467) (fun _ h => h) rfl dX7_near_135 ?_
          refine lv_iconst (v := 2) hx hb dX7_near_138 (by decide) ?_
          refine zr_iald 2 (v := m_at 2) hx hb hK hP 1 rfl rfl (Nat.le_of_ble_eq_true rfl) rfl (by decide) rfl dX7_near_139 ?_
          refine lv_iand hx hb dX7_near_140 ?_
          have e_ : mf_near m_at Wd R kk = (((0 ||| ((1 : Int32) <<< ((nI (kk - Wd)) &&& 31))) ||| ((1 : Int32) <<< ((nI (kk - 1)) &&& 31))) ||| ((1 : Int32) <<< ((nI (kk + 1)) &&& 31))) &&& (m_at 2) := by rw [mf_near, if_neg c_1, if_pos c_15, if_neg c_16, if_neg c_20]
          exact zr_oi hx hb hr hlocks dX7_near_141 (congrArg Value.int e_)
    · refine lv_iload hx hb dX7_near_39 (lv_at hl 0 rfl) ?_
      refine lv_iconst (v := 1) hx hb dX7_near_41 (by decide) ?_
      refine lv_iload_n hx hb dX7_near_42 rfl (lv_at hl 4 rfl) ?_
      refine lv_iload_n hx hb dX7_near_43 rfl (lv_at hl 2 rfl) ?_
      refine zr_iaddN kk Wd hx hb dX7_near_44 ?_
      refine lv_ishl hx hb dX7_near_45 ?_
      refine lv_ior hx hb dX7_near_46 ?_
      refine lv_istore (lv' := [(4, .int ((0 ||| ((1 : Int32) <<< ((nI (kk - Wd)) &&& 31))) ||| ((1 : Int32) <<< ((nI (kk + Wd)) &&& 31)))), (3, .int (nI (kk % Wd))), (2, .int (nI Wd)), (0, .ref (ad 0)), (1, .int (nI kk))]) hx hb dX7_near_47 hl (by decide) rfl (fun ls hl => ?_)
      refine lv_iload_n hx hb dX7_near_49 rfl (lv_at hl 1 rfl) ?_
      refine zr_ifleN (kk % Wd) (by omega) (tgt := 66) hx hb dX7_near_50 (by decide) (fun c_22 => ?_) (fun c_22 => ?_)
      · refine lv_aload_n hx hb dX7_near_66 rfl (lv_at hl 3 rfl) ?_
        refine va_get (D := G.1) (ci := 7) (v := .ref (ad 1)) (C := RX7) (T := TX7) (N := 39) hx hb hts in_X7 hown hK.1 hP 0 rfl rfl 0 (Nat.le_of_ble_eq_true rfl) (hts _ q1467) (fun _ h => h) rfl dX7_near_67 ?_
        refine lv_bipush (v := 9) hx hb dX7_near_70 (by decide) ?_
        refine zr_iald 9 (v := m_at 9) hx hb hK hP 1 rfl rfl (Nat.le_of_ble_eq_true rfl) rfl (by decide) rfl dX7_near_72 ?_
        refine lv_iconst (v := 1) hx hb dX7_near_73 (by decide) ?_
        refine lv_icmp_ne (tgt := 89) hx hb dX7_near_74 (by decide) (fun c_23 => ?_) (fun c_23 => ?_)
        · refine lv_iload_n hx hb dX7_near_89 rfl (lv_at hl 1 rfl) ?_
          refine lv_iconst (v := 1) hx hb dX7_near_90 (by decide) ?_
          refine zr_iaddN (kk % Wd) 1 hx hb dX7_near_91 ?_
          refine lv_iload_n hx hb dX7_near_92 rfl (lv_at hl 2 rfl) ?_
          refine zr_ge ((kk % Wd) + 1) Wd (by omega) (by omega) (tgt := 109) hx hb dX7_near_93 (by decide) (fun c_24 => ?_) (fun c_24 => ?_)
          · refine lv_aload_n hx hb dX7_near_109 rfl (lv_at hl 3 rfl) ?_
            refine va_get (D := G.1) (ci := 7) (v := .ref (ad 1)) (C := RX7) (T := TX7) (N := 39) hx hb hts in_X7 hown hK.1 hP 0 rfl rfl 0 (Nat.le_of_ble_eq_true rfl) (hts _ q1467) (fun _ h => h) rfl dX7_near_110 ?_
            refine lv_bipush (v := 9) hx hb dX7_near_113 (by decide) ?_
            refine zr_iald 9 (v := m_at 9) hx hb hK hP 1 rfl rfl (Nat.le_of_ble_eq_true rfl) rfl (by decide) rfl dX7_near_115 ?_
            refine lv_iconst (v := 1) hx hb dX7_near_116 (by decide) ?_
            refine lv_icmp_ne (tgt := 132) hx hb dX7_near_117 (by decide) (fun _ => ?_) (fun z => absurd z c_23)
            refine lv_iload hx hb dX7_near_132 (lv_at hl 0 rfl) ?_
            refine lv_aload_n hx hb dX7_near_134 rfl (lv_at hl 3 rfl) ?_
            refine va_get (D := G.1) (ci := 7) (v := .ref (ad 1)) (C := RX7) (T := TX7) (N := 39) hx hb hts in_X7 hown hK.1 hP 0 rfl rfl 0 (Nat.le_of_ble_eq_true rfl) (hts _ q1467) (fun _ h => h) rfl dX7_near_135 ?_
            refine lv_iconst (v := 2) hx hb dX7_near_138 (by decide) ?_
            refine zr_iald 2 (v := m_at 2) hx hb hK hP 1 rfl rfl (Nat.le_of_ble_eq_true rfl) rfl (by decide) rfl dX7_near_139 ?_
            refine lv_iand hx hb dX7_near_140 ?_
            have e_ : mf_near m_at Wd R kk = ((0 ||| ((1 : Int32) <<< ((nI (kk - Wd)) &&& 31))) ||| ((1 : Int32) <<< ((nI (kk + Wd)) &&& 31))) &&& (m_at 2) := by rw [mf_near, if_neg c_1, if_neg c_15, if_pos c_22, if_neg c_23, if_pos c_24]
            exact zr_oi hx hb hr hlocks dX7_near_141 (congrArg Value.int e_)
          · refine lv_iload hx hb dX7_near_96 (lv_at hl 0 rfl) ?_
            refine lv_iconst (v := 1) hx hb dX7_near_98 (by decide) ?_
            refine lv_iload_n hx hb dX7_near_99 rfl (lv_at hl 4 rfl) ?_
            refine lv_iconst (v := 1) hx hb dX7_near_100 (by decide) ?_
            refine zr_iaddN kk 1 hx hb dX7_near_101 ?_
            refine lv_ishl hx hb dX7_near_102 ?_
            refine lv_ior hx hb dX7_near_103 ?_
            refine lv_istore (lv' := [(4, .int (((0 ||| ((1 : Int32) <<< ((nI (kk - Wd)) &&& 31))) ||| ((1 : Int32) <<< ((nI (kk + Wd)) &&& 31))) ||| ((1 : Int32) <<< ((nI (kk + 1)) &&& 31)))), (3, .int (nI (kk % Wd))), (2, .int (nI Wd)), (0, .ref (ad 0)), (1, .int (nI kk))]) hx hb dX7_near_104 hl (by decide) rfl (fun ls hl => ?_)
            refine lv_goto (tgt := 132) hx hb dX7_near_106 (by decide) ?_
            refine lv_iload hx hb dX7_near_132 (lv_at hl 0 rfl) ?_
            refine lv_aload_n hx hb dX7_near_134 rfl (lv_at hl 3 rfl) ?_
            refine va_get (D := G.1) (ci := 7) (v := .ref (ad 1)) (C := RX7) (T := TX7) (N := 39) hx hb hts in_X7 hown hK.1 hP 0 rfl rfl 0 (Nat.le_of_ble_eq_true rfl) (hts _ q1467) (fun _ h => h) rfl dX7_near_135 ?_
            refine lv_iconst (v := 2) hx hb dX7_near_138 (by decide) ?_
            refine zr_iald 2 (v := m_at 2) hx hb hK hP 1 rfl rfl (Nat.le_of_ble_eq_true rfl) rfl (by decide) rfl dX7_near_139 ?_
            refine lv_iand hx hb dX7_near_140 ?_
            have e_ : mf_near m_at Wd R kk = (((0 ||| ((1 : Int32) <<< ((nI (kk - Wd)) &&& 31))) ||| ((1 : Int32) <<< ((nI (kk + Wd)) &&& 31))) ||| ((1 : Int32) <<< ((nI (kk + 1)) &&& 31))) &&& (m_at 2) := by rw [mf_near, if_neg c_1, if_neg c_15, if_pos c_22, if_neg c_23, if_neg c_24]
            exact zr_oi hx hb hr hlocks dX7_near_141 (congrArg Value.int e_)
        · refine lv_iload hx hb dX7_near_77 (lv_at hl 0 rfl) ?_
          refine lv_iconst (v := 1) hx hb dX7_near_79 (by decide) ?_
          refine lv_iload_n hx hb dX7_near_80 rfl (lv_at hl 4 rfl) ?_
          refine lv_iload_n hx hb dX7_near_81 rfl (lv_at hl 2 rfl) ?_
          refine zr_iaddN kk Wd hx hb dX7_near_82 ?_
          refine lv_iconst (v := 1) hx hb dX7_near_83 (by decide) ?_
          refine zr_isubN (kk + Wd) 1 (by omega) hx hb dX7_near_84 ?_
          refine lv_ishl hx hb dX7_near_85 ?_
          refine lv_ior hx hb dX7_near_86 ?_
          refine lv_istore (lv' := [(4, .int (((0 ||| ((1 : Int32) <<< ((nI (kk - Wd)) &&& 31))) ||| ((1 : Int32) <<< ((nI (kk + Wd)) &&& 31))) ||| ((1 : Int32) <<< ((nI ((kk + Wd) - 1)) &&& 31)))), (3, .int (nI (kk % Wd))), (2, .int (nI Wd)), (0, .ref (ad 0)), (1, .int (nI kk))]) hx hb dX7_near_87 hl (by decide) rfl (fun ls hl => ?_)
          refine lv_iload_n hx hb dX7_near_89 rfl (lv_at hl 1 rfl) ?_
          refine lv_iconst (v := 1) hx hb dX7_near_90 (by decide) ?_
          refine zr_iaddN (kk % Wd) 1 hx hb dX7_near_91 ?_
          refine lv_iload_n hx hb dX7_near_92 rfl (lv_at hl 2 rfl) ?_
          refine zr_ge ((kk % Wd) + 1) Wd (by omega) (by omega) (tgt := 109) hx hb dX7_near_93 (by decide) (fun c_25 => ?_) (fun c_25 => ?_)
          · refine lv_aload_n hx hb dX7_near_109 rfl (lv_at hl 3 rfl) ?_
            refine va_get (D := G.1) (ci := 7) (v := .ref (ad 1)) (C := RX7) (T := TX7) (N := 39) hx hb hts in_X7 hown hK.1 hP 0 rfl rfl 0 (Nat.le_of_ble_eq_true rfl) (hts _ q1467) (fun _ h => h) rfl dX7_near_110 ?_
            refine lv_bipush (v := 9) hx hb dX7_near_113 (by decide) ?_
            refine zr_iald 9 (v := m_at 9) hx hb hK hP 1 rfl rfl (Nat.le_of_ble_eq_true rfl) rfl (by decide) rfl dX7_near_115 ?_
            refine lv_iconst (v := 1) hx hb dX7_near_116 (by decide) ?_
            refine lv_icmp_ne (tgt := 132) hx hb dX7_near_117 (by decide) (fun z => absurd c_23 z) (fun _ => ?_)
            refine lv_iload hx hb dX7_near_120 (lv_at hl 0 rfl) ?_
            refine lv_iconst (v := 1) hx hb dX7_near_122 (by decide) ?_
            refine lv_iload_n hx hb dX7_near_123 rfl (lv_at hl 4 rfl) ?_
            refine lv_iload_n hx hb dX7_near_124 rfl (lv_at hl 2 rfl) ?_
            refine lv_isub hx hb dX7_near_125 ?_
            refine lv_iconst (v := 1) hx hb dX7_near_126 (by decide) ?_
            refine lv_iadd hx hb dX7_near_127 ?_
            refine lv_ishl hx hb dX7_near_128 ?_
            refine lv_ior hx hb dX7_near_129 ?_
            refine lv_istore (lv' := [(4, .int ((((0 ||| ((1 : Int32) <<< ((nI (kk - Wd)) &&& 31))) ||| ((1 : Int32) <<< ((nI (kk + Wd)) &&& 31))) ||| ((1 : Int32) <<< ((nI ((kk + Wd) - 1)) &&& 31))) ||| ((1 : Int32) <<< ((((nI kk) - (nI Wd)) + 1) &&& 31)))), (3, .int (nI (kk % Wd))), (2, .int (nI Wd)), (0, .ref (ad 0)), (1, .int (nI kk))]) hx hb dX7_near_130 hl (by decide) rfl (fun ls hl => ?_)
            refine lv_iload hx hb dX7_near_132 (lv_at hl 0 rfl) ?_
            refine lv_aload_n hx hb dX7_near_134 rfl (lv_at hl 3 rfl) ?_
            refine va_get (D := G.1) (ci := 7) (v := .ref (ad 1)) (C := RX7) (T := TX7) (N := 39) hx hb hts in_X7 hown hK.1 hP 0 rfl rfl 0 (Nat.le_of_ble_eq_true rfl) (hts _ q1467) (fun _ h => h) rfl dX7_near_135 ?_
            refine lv_iconst (v := 2) hx hb dX7_near_138 (by decide) ?_
            refine zr_iald 2 (v := m_at 2) hx hb hK hP 1 rfl rfl (Nat.le_of_ble_eq_true rfl) rfl (by decide) rfl dX7_near_139 ?_
            refine lv_iand hx hb dX7_near_140 ?_
            have e_ : mf_near m_at Wd R kk = ((((0 ||| ((1 : Int32) <<< ((nI (kk - Wd)) &&& 31))) ||| ((1 : Int32) <<< ((nI (kk + Wd)) &&& 31))) ||| ((1 : Int32) <<< ((nI ((kk + Wd) - 1)) &&& 31))) ||| ((1 : Int32) <<< ((((nI kk) - (nI Wd)) + 1) &&& 31))) &&& (m_at 2) := by rw [mf_near, if_neg c_1, if_neg c_15, if_pos c_22, if_pos c_23, if_pos c_25]
            exact zr_oi hx hb hr hlocks dX7_near_141 (congrArg Value.int e_)
          · refine lv_iload hx hb dX7_near_96 (lv_at hl 0 rfl) ?_
            refine lv_iconst (v := 1) hx hb dX7_near_98 (by decide) ?_
            refine lv_iload_n hx hb dX7_near_99 rfl (lv_at hl 4 rfl) ?_
            refine lv_iconst (v := 1) hx hb dX7_near_100 (by decide) ?_
            refine zr_iaddN kk 1 hx hb dX7_near_101 ?_
            refine lv_ishl hx hb dX7_near_102 ?_
            refine lv_ior hx hb dX7_near_103 ?_
            refine lv_istore (lv' := [(4, .int ((((0 ||| ((1 : Int32) <<< ((nI (kk - Wd)) &&& 31))) ||| ((1 : Int32) <<< ((nI (kk + Wd)) &&& 31))) ||| ((1 : Int32) <<< ((nI ((kk + Wd) - 1)) &&& 31))) ||| ((1 : Int32) <<< ((nI (kk + 1)) &&& 31)))), (3, .int (nI (kk % Wd))), (2, .int (nI Wd)), (0, .ref (ad 0)), (1, .int (nI kk))]) hx hb dX7_near_104 hl (by decide) rfl (fun ls hl => ?_)
            refine lv_goto (tgt := 132) hx hb dX7_near_106 (by decide) ?_
            refine lv_iload hx hb dX7_near_132 (lv_at hl 0 rfl) ?_
            refine lv_aload_n hx hb dX7_near_134 rfl (lv_at hl 3 rfl) ?_
            refine va_get (D := G.1) (ci := 7) (v := .ref (ad 1)) (C := RX7) (T := TX7) (N := 39) hx hb hts in_X7 hown hK.1 hP 0 rfl rfl 0 (Nat.le_of_ble_eq_true rfl) (hts _ q1467) (fun _ h => h) rfl dX7_near_135 ?_
            refine lv_iconst (v := 2) hx hb dX7_near_138 (by decide) ?_
            refine zr_iald 2 (v := m_at 2) hx hb hK hP 1 rfl rfl (Nat.le_of_ble_eq_true rfl) rfl (by decide) rfl dX7_near_139 ?_
            refine lv_iand hx hb dX7_near_140 ?_
            have e_ : mf_near m_at Wd R kk = ((((0 ||| ((1 : Int32) <<< ((nI (kk - Wd)) &&& 31))) ||| ((1 : Int32) <<< ((nI (kk + Wd)) &&& 31))) ||| ((1 : Int32) <<< ((nI ((kk + Wd) - 1)) &&& 31))) ||| ((1 : Int32) <<< ((nI (kk + 1)) &&& 31))) &&& (m_at 2) := by rw [mf_near, if_neg c_1, if_neg c_15, if_pos c_22, if_pos c_23, if_neg c_25]
            exact zr_oi hx hb hr hlocks dX7_near_141 (congrArg Value.int e_)
      · refine lv_iload hx hb dX7_near_53 (lv_at hl 0 rfl) ?_
        refine lv_iconst (v := 1) hx hb dX7_near_55 (by decide) ?_
        refine lv_iload_n hx hb dX7_near_56 rfl (lv_at hl 4 rfl) ?_
        refine lv_iconst (v := 1) hx hb dX7_near_57 (by decide) ?_
        refine zr_isubN kk 1 (by omega) hx hb dX7_near_58 ?_
        refine lv_ishl hx hb dX7_near_59 ?_
        refine lv_ior hx hb dX7_near_60 ?_
        refine lv_istore (lv' := [(4, .int (((0 ||| ((1 : Int32) <<< ((nI (kk - Wd)) &&& 31))) ||| ((1 : Int32) <<< ((nI (kk + Wd)) &&& 31))) ||| ((1 : Int32) <<< ((nI (kk - 1)) &&& 31)))), (3, .int (nI (kk % Wd))), (2, .int (nI Wd)), (0, .ref (ad 0)), (1, .int (nI kk))]) hx hb dX7_near_61 hl (by decide) rfl (fun ls hl => ?_)
        refine lv_goto (tgt := 89) hx hb dX7_near_63 (by decide) ?_
        refine lv_iload_n hx hb dX7_near_89 rfl (lv_at hl 1 rfl) ?_
        refine lv_iconst (v := 1) hx hb dX7_near_90 (by decide) ?_
        refine zr_iaddN (kk % Wd) 1 hx hb dX7_near_91 ?_
        refine lv_iload_n hx hb dX7_near_92 rfl (lv_at hl 2 rfl) ?_
        refine zr_ge ((kk % Wd) + 1) Wd (by omega) (by omega) (tgt := 109) hx hb dX7_near_93 (by decide) (fun c_26 => ?_) (fun c_26 => ?_)
        · refine lv_aload_n hx hb dX7_near_109 rfl (lv_at hl 3 rfl) ?_
          refine va_get (D := G.1) (ci := 7) (v := .ref (ad 1)) (C := RX7) (T := TX7) (N := 39) hx hb hts in_X7 hown hK.1 hP 0 rfl rfl 0 (Nat.le_of_ble_eq_true rfl) (hts _ q1467) (fun _ h => h) rfl dX7_near_110 ?_
          refine lv_bipush (v := 9) hx hb dX7_near_113 (by decide) ?_
          refine zr_iald 9 (v := m_at 9) hx hb hK hP 1 rfl rfl (Nat.le_of_ble_eq_true rfl) rfl (by decide) rfl dX7_near_115 ?_
          refine lv_iconst (v := 1) hx hb dX7_near_116 (by decide) ?_
          refine lv_icmp_ne (tgt := 132) hx hb dX7_near_117 (by decide) (fun c_27 => ?_) (fun c_27 => ?_)
          · refine lv_iload hx hb dX7_near_132 (lv_at hl 0 rfl) ?_
            refine lv_aload_n hx hb dX7_near_134 rfl (lv_at hl 3 rfl) ?_
            refine va_get (D := G.1) (ci := 7) (v := .ref (ad 1)) (C := RX7) (T := TX7) (N := 39) hx hb hts in_X7 hown hK.1 hP 0 rfl rfl 0 (Nat.le_of_ble_eq_true rfl) (hts _ q1467) (fun _ h => h) rfl dX7_near_135 ?_
            refine lv_iconst (v := 2) hx hb dX7_near_138 (by decide) ?_
            refine zr_iald 2 (v := m_at 2) hx hb hK hP 1 rfl rfl (Nat.le_of_ble_eq_true rfl) rfl (by decide) rfl dX7_near_139 ?_
            refine lv_iand hx hb dX7_near_140 ?_
            have e_ : mf_near m_at Wd R kk = (((0 ||| ((1 : Int32) <<< ((nI (kk - Wd)) &&& 31))) ||| ((1 : Int32) <<< ((nI (kk + Wd)) &&& 31))) ||| ((1 : Int32) <<< ((nI (kk - 1)) &&& 31))) &&& (m_at 2) := by rw [mf_near, if_neg c_1, if_neg c_15, if_neg c_22, if_pos c_26, if_neg c_27]
            exact zr_oi hx hb hr hlocks dX7_near_141 (congrArg Value.int e_)
          · refine lv_iload hx hb dX7_near_120 (lv_at hl 0 rfl) ?_
            refine lv_iconst (v := 1) hx hb dX7_near_122 (by decide) ?_
            refine lv_iload_n hx hb dX7_near_123 rfl (lv_at hl 4 rfl) ?_
            refine lv_iload_n hx hb dX7_near_124 rfl (lv_at hl 2 rfl) ?_
            refine lv_isub hx hb dX7_near_125 ?_
            refine lv_iconst (v := 1) hx hb dX7_near_126 (by decide) ?_
            refine lv_iadd hx hb dX7_near_127 ?_
            refine lv_ishl hx hb dX7_near_128 ?_
            refine lv_ior hx hb dX7_near_129 ?_
            refine lv_istore (lv' := [(4, .int ((((0 ||| ((1 : Int32) <<< ((nI (kk - Wd)) &&& 31))) ||| ((1 : Int32) <<< ((nI (kk + Wd)) &&& 31))) ||| ((1 : Int32) <<< ((nI (kk - 1)) &&& 31))) ||| ((1 : Int32) <<< ((((nI kk) - (nI Wd)) + 1) &&& 31)))), (3, .int (nI (kk % Wd))), (2, .int (nI Wd)), (0, .ref (ad 0)), (1, .int (nI kk))]) hx hb dX7_near_130 hl (by decide) rfl (fun ls hl => ?_)
            refine lv_iload hx hb dX7_near_132 (lv_at hl 0 rfl) ?_
            refine lv_aload_n hx hb dX7_near_134 rfl (lv_at hl 3 rfl) ?_
            refine va_get (D := G.1) (ci := 7) (v := .ref (ad 1)) (C := RX7) (T := TX7) (N := 39) hx hb hts in_X7 hown hK.1 hP 0 rfl rfl 0 (Nat.le_of_ble_eq_true rfl) (hts _ q1467) (fun _ h => h) rfl dX7_near_135 ?_
            refine lv_iconst (v := 2) hx hb dX7_near_138 (by decide) ?_
            refine zr_iald 2 (v := m_at 2) hx hb hK hP 1 rfl rfl (Nat.le_of_ble_eq_true rfl) rfl (by decide) rfl dX7_near_139 ?_
            refine lv_iand hx hb dX7_near_140 ?_
            have e_ : mf_near m_at Wd R kk = ((((0 ||| ((1 : Int32) <<< ((nI (kk - Wd)) &&& 31))) ||| ((1 : Int32) <<< ((nI (kk + Wd)) &&& 31))) ||| ((1 : Int32) <<< ((nI (kk - 1)) &&& 31))) ||| ((1 : Int32) <<< ((((nI kk) - (nI Wd)) + 1) &&& 31))) &&& (m_at 2) := by rw [mf_near, if_neg c_1, if_neg c_15, if_neg c_22, if_pos c_26, if_pos c_27]
            exact zr_oi hx hb hr hlocks dX7_near_141 (congrArg Value.int e_)
        · refine lv_iload hx hb dX7_near_96 (lv_at hl 0 rfl) ?_
          refine lv_iconst (v := 1) hx hb dX7_near_98 (by decide) ?_
          refine lv_iload_n hx hb dX7_near_99 rfl (lv_at hl 4 rfl) ?_
          refine lv_iconst (v := 1) hx hb dX7_near_100 (by decide) ?_
          refine zr_iaddN kk 1 hx hb dX7_near_101 ?_
          refine lv_ishl hx hb dX7_near_102 ?_
          refine lv_ior hx hb dX7_near_103 ?_
          refine lv_istore (lv' := [(4, .int ((((0 ||| ((1 : Int32) <<< ((nI (kk - Wd)) &&& 31))) ||| ((1 : Int32) <<< ((nI (kk + Wd)) &&& 31))) ||| ((1 : Int32) <<< ((nI (kk - 1)) &&& 31))) ||| ((1 : Int32) <<< ((nI (kk + 1)) &&& 31)))), (3, .int (nI (kk % Wd))), (2, .int (nI Wd)), (0, .ref (ad 0)), (1, .int (nI kk))]) hx hb dX7_near_104 hl (by decide) rfl (fun ls hl => ?_)
          refine lv_goto (tgt := 132) hx hb dX7_near_106 (by decide) ?_
          refine lv_iload hx hb dX7_near_132 (lv_at hl 0 rfl) ?_
          refine lv_aload_n hx hb dX7_near_134 rfl (lv_at hl 3 rfl) ?_
          refine va_get (D := G.1) (ci := 7) (v := .ref (ad 1)) (C := RX7) (T := TX7) (N := 39) hx hb hts in_X7 hown hK.1 hP 0 rfl rfl 0 (Nat.le_of_ble_eq_true rfl) (hts _ q1467) (fun _ h => h) rfl dX7_near_135 ?_
          refine lv_iconst (v := 2) hx hb dX7_near_138 (by decide) ?_
          refine zr_iald 2 (v := m_at 2) hx hb hK hP 1 rfl rfl (Nat.le_of_ble_eq_true rfl) rfl (by decide) rfl dX7_near_139 ?_
          refine lv_iand hx hb dX7_near_140 ?_
          have e_ : mf_near m_at Wd R kk = ((((0 ||| ((1 : Int32) <<< ((nI (kk - Wd)) &&& 31))) ||| ((1 : Int32) <<< ((nI (kk + Wd)) &&& 31))) ||| ((1 : Int32) <<< ((nI (kk - 1)) &&& 31))) ||| ((1 : Int32) <<< ((nI (kk + 1)) &&& 31))) &&& (m_at 2) := by rw [mf_near, if_neg c_1, if_neg c_15, if_neg c_22, if_neg c_26]
          exact zr_oi hx hb hr hlocks dX7_near_141 (congrArg Value.int e_)
def mf_laysNear_B2 (m_at : Nat → Int32) (Wd : Nat) (R : Nat) (k_1 : Nat) (s_1 : (Nat → Int32)) : (Nat → Int32) :=
  upd s_1 k_1 (mf_near m_at Wd R k_1)
def mf_laysNear_L2 (m_at : Nat → Int32) (Wd : Nat) (R : Nat) (s_1 : (Nat → Int32)) : (Nat → Int32) := zf (mf_laysNear_B2 m_at Wd R) s_1 (Wd * R)
def mf_laysNear (m_at : Nat → Int32) (m_beside : Nat → Int32) (Wd : Nat) (R : Nat) : (Nat → Int32) :=
  zlet (mf_laysNear_L2 m_at Wd R m_beside) (fun s_1 =>
  s_1)
theorem hd_X7_laysNear : yX7_laysNear.cls = RX7 ∧ yX7_laysNear.cls ≠ "java/lang/invoke/MethodHandle" ∧ yX7_laysNear.cls ≠ "java/lang/invoke/VarHandle" ∧ (parseMethodDescriptor yX7_laysNear.desc).map (fun d => d.parameters.length) = some 0 := by decide +kernel
set_option maxHeartbeats 4000000 in
set_option maxRecDepth 100000 in
theorem mt_mf_laysNear (l : Launch) (G : zG) (ad : Nat → Nat) (m_status : Int32) (m_top : Int64) (m_bottom : Int64) (m_taped : Int32) (m_size : Int32) (m_token : Int32) (m_from : Int32) (m_end : Int32) (m_value : Int32) (m_faultKind : Int32) (m_faultPlace : Int32) (m_faults : Int32) (m_seen : Int32) (m_depth : Int32) (m_counted : Int32) (m_lead : Int32) (m_round : Int32) (m_tried : Int32) (m_triedMany : Int32) (m_drawn : Int32) (m_ranSteps : Int32) (m_isTold : Bool) (m_marks : Int32) (m_at : Nat → Int32) (m_names : Nat → Int64) (m_sort : Nat → Int32) (m_trayMany : Nat → Int32) (m_trays : Nat → Int64) (m_tape : Nat → Int32) (m_text : Nat → Int32) (m_opened : Nat → Int32) (m_beside : Nat → Int32) (m_then : Nat → Int32) (m_ways : Nat → Int64) (m_further : Nat → Int64) (m_canBe : Nat → Int32) (m_loops : Nat → Int32) (m_ran : Nat → Int32) (m_told0 : Nat → Int32) (Wd : Nat) (R : Nat) (nr : Nat) (nc : Nat) (hG : mOK m_at Wd R nr nc) (sz : Nat) : Met l yX7_laysNear (ws_ yX7_laysNear cX7_laysNear 2 none) (zR 3 0 0) (zPm G sz [.ref (ad 0)] (mW G ad m_status m_top m_bottom m_taped m_size m_token m_from m_end m_value m_faultKind m_faultPlace m_faults m_seen m_depth m_counted m_lead m_round m_tried m_triedMany m_drawn m_ranSteps m_isTold m_marks m_at m_names m_sort m_trayMany m_trays m_tape m_text m_opened m_beside m_then m_ways m_further m_canBe m_loops m_ran m_told0)) (zQm G (True) none (mW G ad m_status m_top m_bottom m_taped m_size m_token m_from m_end m_value m_faultKind m_faultPlace m_faults m_seen m_depth m_counted m_lead m_round m_tried m_triedMany m_drawn m_ranSteps m_isTold m_marks m_at m_names m_sort m_trayMany m_trays m_tape m_text m_opened (mf_laysNear m_at m_beside Wd R) m_then m_ways m_further m_canBe m_loops m_ran m_told0) (va_A (mW G ad m_status m_top m_bottom m_taped m_size m_token m_from m_end m_value m_faultKind m_faultPlace m_faults m_seen m_depth m_counted m_lead m_round m_tried m_triedMany m_drawn m_ranSteps m_isTold m_marks m_at m_names m_sort m_trayMany m_trays m_tape m_text m_opened m_beside m_then m_ways m_further m_canBe m_loops m_ran m_told0) sz)) 0 0 (va_A (mW G ad m_status m_top m_bottom m_taped m_size m_token m_from m_end m_value m_faultKind m_faultPlace m_faults m_seen m_depth m_counted m_lead m_round m_tried m_triedMany m_drawn m_ranSteps m_isTold m_marks m_at m_names m_sort m_trayMany m_trays m_tape m_text m_opened m_beside m_then m_ways m_further m_canBe m_loops m_ran m_told0) sz) := by
  refine zr_entM (by decide) (Nat.le_of_ble_eq_true rfl) ?_
  intro p e s m below meth c ⟨hx, hb, hr, hml, hown, hts, hlocks, hnm⟩ ls hl hP hK A hE hA hD hS
  have hown : s.vm.findClass RX7 = some m.cls := hown
  have hl : lv_has ls 2 [(0, .ref (ad 0))] := hl
  obtain ⟨H, hH⟩ : ∃ H, H = s.heap := ⟨_, rfl⟩
  obtain ⟨locs, hlo⟩ : ∃ L : List Loc, L = [] := ⟨_, rfl⟩
  rw [← hH] at hP
  have hS : va_S A s.heap H locs := by rw [hH, hlo]; exact va_S.rf
  have hgo : W p l e (zR 3 0 0) s m ([.ref (ad 0)] : List Value).toArray below meth c H locs 0 0 (MQ below (zQm G (True) none (mW G ad m_status m_top m_bottom m_taped m_size m_token m_from m_end m_value m_faultKind m_faultPlace m_faults m_seen m_depth m_counted m_lead m_round m_tried m_triedMany m_drawn m_ranSteps m_isTold m_marks m_at m_names m_sort m_trayMany m_trays m_tape m_text m_opened (mf_laysNear m_at m_beside Wd R) m_then m_ways m_further m_canBe m_loops m_ran m_told0) A) ([.ref (ad 0)] : List Value).toArray s 0 0 A) (F0 m 0 ls []) := ?_
  · rw [hH, hlo] at hgo; exact hgo
  clear hH hlo
  have hWR := mOK_WR hG
  have hW0 := mOK_W0 hG
  have hW5 := mOK_W5 hG
  have hR0 := mOK_R0 hG
  have hR6 := mOK_R6 hG
  have hn4 := mOK_n4 hG
  have hc6 := mOK_c6 hG
  refine lv_iconst (v := 0) hx hb dX7_laysNear_0 (by decide) ?_
  refine lv_istore_n (lv' := [(1, .int 0), (0, .ref (ad 0))]) hx hb dX7_laysNear_1 rfl hl (by decide) rfl (fun ls hl => ?_)
  have hlp_1 : ∀ (n k_1 : Nat) (s_1 : (Nat → Int32)), k_1 ≤ Wd * R → Wd * R < k_1 + n → zf (mf_laysNear_B2 m_at Wd R) m_beside k_1 = s_1 → ∀ (H : Heap) (locs : List Loc), va_P G.1 zcl (mW G ad m_status m_top m_bottom m_taped m_size m_token m_from m_end m_value m_faultKind m_faultPlace m_faults m_seen m_depth m_counted m_lead m_round m_tried m_triedMany m_drawn m_ranSteps m_isTold m_marks m_at m_names m_sort m_trayMany m_trays m_tape m_text m_opened s_1 m_then m_ways m_further m_canBe m_loops m_ran m_told0) H → va_D A (mW G ad m_status m_top m_bottom m_taped m_size m_token m_from m_end m_value m_faultKind m_faultPlace m_faults m_seen m_depth m_counted m_lead m_round m_tried m_triedMany m_drawn m_ranSteps m_isTold m_marks m_at m_names m_sort m_trayMany m_trays m_tape m_text m_opened s_1 m_then m_ways m_further m_canBe m_loops m_ran m_told0) → va_S A s.heap H locs → ∀ ls : Array Slot, lv_has ls 2 [(1, .int (nI k_1)), (0, .ref (ad 0))] → W p l e (zR 3 0 0) s m ([.ref (ad 0)] : List Value).toArray below meth c H locs 0 0 (MQ below (zQm G (True) none (mW G ad m_status m_top m_bottom m_taped m_size m_token m_from m_end m_value m_faultKind m_faultPlace m_faults m_seen m_depth m_counted m_lead m_round m_tried m_triedMany m_drawn m_ranSteps m_isTold m_marks m_at m_names m_sort m_trayMany m_trays m_tape m_text m_opened (mf_laysNear m_at m_beside Wd R) m_then m_ways m_further m_canBe m_loops m_ran m_told0) A) ([.ref (ad 0)] : List Value).toArray s 0 0 A) (F0 m 2 ls []) := by
    intro n
    induction n with
    | zero => intro k_1 s_1 h1 h2; exact absurd h2 (by omega)
    | succ n ih_1 =>
      intro k_1 s_1 hk_1 hn_1 hst_1 H locs hP hD hS ls hl
      refine lv_iload_n hx hb dX7_laysNear_2 rfl (lv_at hl 0 rfl) ?_
      refine lv_aload_n hx hb dX7_laysNear_3 rfl (lv_at hl 1 rfl) ?_
      refine zr_obV ⟨hx, hb, hml, hown, hts⟩ (mt_mf_places l G ad m_status m_top m_bottom m_taped m_size m_token m_from m_end m_value m_faultKind m_faultPlace m_faults m_seen m_depth m_counted m_lead m_round m_tried m_triedMany m_drawn m_ranSteps m_isTold m_marks m_at m_names m_sort m_trayMany m_trays m_tape m_text m_opened s_1 m_then m_ways m_further m_canBe m_loops m_ran m_told0 Wd R nr nc hG) (cwV 0 hts (lw_V q1815 q1817 qs97 q144 q1818) rfl rfl rfl hd_X7_places ⟨(Nat.le_of_ble_eq_true rfl), (Nat.le_of_ble_eq_true rfl)⟩) hP hK (zE_o hE hS) 0 7 rfl rfl rfl hl.1 rfl (Nat.le_of_ble_eq_true rfl) dX7_laysNear_4 ⟨Nat.le_refl _, Nat.le_refl _⟩ ?_
      refine zr_ge k_1 (Wd * R) (by omega) (by omega) (tgt := 27) hx hb dX7_laysNear_7 (by decide) (fun c_1 => ?_) (fun c_1 => ?_)
      · have ek_1 : k_1 = Wd * R := Nat.le_antisymm hk_1 c_1
        have hs_1 : mf_laysNear_L2 m_at Wd R m_beside = s_1 := by rw [ek_1] at hst_1; exact hst_1
        have hl := lv_sub hl (l' := _) [1] rfl
        have e_ : mf_laysNear m_at m_beside Wd R = s_1 := by rw [mf_laysNear, zlet_eq hs_1]
        exact zr_mv hx hb hr hlocks hP hD hS dX7_laysNear_27 rfl (by rw [e_]) trivial
      · have hlt_1 : k_1 < Wd * R := Nat.lt_of_not_le c_1
        refine lv_aload_n hx hb dX7_laysNear_10 rfl (lv_at hl 1 rfl) ?_
        refine va_get (D := G.1) (ci := 7) (v := .ref (ad 9)) (C := RX7) (T := TX7) (N := 39) hx hb hts in_X7 hown hK.1 hP 0 rfl rfl 23 (Nat.le_of_ble_eq_true rfl) (hts _ q1490) (fun _ h => h) rfl dX7_laysNear_11 ?_
        refine lv_iload_n hx hb dX7_laysNear_14 rfl (lv_at hl 0 rfl) ?_
        refine lv_aload_n hx hb dX7_laysNear_15 rfl (lv_at hl 1 rfl) ?_
        refine lv_iload_n hx hb dX7_laysNear_16 rfl (lv_at hl 0 rfl) ?_
        refine zr_obV ⟨hx, hb, hml, hown, hts⟩ (mt_mf_near l G ad m_status m_top m_bottom m_taped m_size m_token m_from m_end m_value m_faultKind m_faultPlace m_faults m_seen m_depth m_counted m_lead m_round m_tried m_triedMany m_drawn m_ranSteps m_isTold m_marks m_at m_names m_sort m_trayMany m_trays m_tape m_text m_opened s_1 m_then m_ways m_further m_canBe m_loops m_ran m_told0 Wd R nr nc k_1 hG (by first | assumption | exact hkk | omega)) (cwV 1 hts (lw_V q1811 q1813 qs96 q144 q1814) rfl rfl rfl hd_X7_near ⟨(Nat.le_of_ble_eq_true rfl), (Nat.le_of_ble_eq_true rfl)⟩) hP hK (zE_o hE hS) 0 7 rfl rfl rfl hl.1 rfl (Nat.le_of_ble_eq_true rfl) dX7_laysNear_17 ⟨Nat.le_refl _, Nat.le_refl _⟩ ?_
        refine zr_iast k_1 (ws' := (mW G ad m_status m_top m_bottom m_taped m_size m_token m_from m_end m_value m_faultKind m_faultPlace m_faults m_seen m_depth m_counted m_lead m_round m_tried m_triedMany m_drawn m_ranSteps m_isTold m_marks m_at m_names m_sort m_trayMany m_trays m_tape m_text m_opened (upd s_1 k_1 (mf_near m_at Wd R k_1)) m_then m_ways m_further m_canBe m_loops m_ran m_told0)) hx hb hK hP hD hS 9 rfl rfl (Nat.le_of_ble_eq_true rfl) rfl (by omega) rfl dX7_laysNear_20 (fun H locs hP hD hS => ?_)
        refine lv_iinc (v := nI (k_1 + 1)) (lv' := [(1, .int (nI (k_1 + 1))), (0, .ref (ad 0))]) hx hb dX7_laysNear_21 hl (k := 0) rfl (nI_add k_1 1) (by decide) rfl (fun ls hl => ?_)
        refine lv_goto (tgt := 2) hx hb dX7_laysNear_24 (by decide) ?_
        exact ih_1 (k_1 + 1) (upd s_1 k_1 (mf_near m_at Wd R k_1)) hlt_1 (by omega) (zf_s hst_1 (by rw [mf_laysNear_B2])) H locs hP hD hS ls (lv_sub hl [0, 1] rfl)
  exact hlp_1 ((Wd * R) + 1) 0 m_beside (Nat.zero_le _) (by omega) rfl H locs hP hD hS ls (lv_sub hl [0, 1] rfl)
def mf_becomes_B30 (m_at : Nat → Int32) (m_beside : Nat → Int32) (Wd : Nat) (R : Nat) (lit : Int32) (rule : Int32) (k_2 : Nat) (s_2 : Int32) : Int32 :=
  (if (((mf_free m_at) >>> ((nI k_2) &&& 31)) &&& 1) = 0 then
    s_2
  else
    s_2 ||| ((((m_at (12 + (2 * rule.toNatClampNeg) + (((lit >>> ((nI k_2) &&& 31)) &&& 1).toNatClampNeg))) >>> ((nI (zpc ((m_beside k_2) &&& lit))) &&& 31)) &&& 1) <<< ((nI k_2) &&& 31)))
def mf_becomes_L30 (m_at : Nat → Int32) (m_beside : Nat → Int32) (Wd : Nat) (R : Nat) (lit : Int32) (rule : Int32) (s_2 : Int32) : Int32 := zf (mf_becomes_B30 m_at m_beside Wd R lit rule) s_2 (Wd * R)
def mf_becomes (m_at : Nat → Int32) (m_beside : Nat → Int32) (Wd : Nat) (R : Nat) (lit : Int32) (rule : Int32) : Int32 :=
  (if rule = (-1) then
    ((m_at 3) &&& (m_at 4))
  else
    zlet (mf_becomes_L30 m_at m_beside Wd R lit rule ((m_at 3) &&& (m_at 4))) (fun s_2 =>
    s_2))
theorem hd_X7_becomes : yX7_becomes.cls = RX7 ∧ yX7_becomes.cls ≠ "java/lang/invoke/MethodHandle" ∧ yX7_becomes.cls ≠ "java/lang/invoke/VarHandle" ∧ (parseMethodDescriptor yX7_becomes.desc).map (fun d => d.parameters.length) = some 2 := by decide +kernel
set_option maxHeartbeats 4000000 in
set_option maxRecDepth 100000 in
theorem mt_mf_becomes (l : Launch) (G : zG) (ad : Nat → Nat) (m_status : Int32) (m_top : Int64) (m_bottom : Int64) (m_taped : Int32) (m_size : Int32) (m_token : Int32) (m_from : Int32) (m_end : Int32) (m_value : Int32) (m_faultKind : Int32) (m_faultPlace : Int32) (m_faults : Int32) (m_seen : Int32) (m_depth : Int32) (m_counted : Int32) (m_lead : Int32) (m_round : Int32) (m_tried : Int32) (m_triedMany : Int32) (m_drawn : Int32) (m_ranSteps : Int32) (m_isTold : Bool) (m_marks : Int32) (m_at : Nat → Int32) (m_names : Nat → Int64) (m_sort : Nat → Int32) (m_trayMany : Nat → Int32) (m_trays : Nat → Int64) (m_tape : Nat → Int32) (m_text : Nat → Int32) (m_opened : Nat → Int32) (m_beside : Nat → Int32) (m_then : Nat → Int32) (m_ways : Nat → Int64) (m_further : Nat → Int64) (m_canBe : Nat → Int32) (m_loops : Nat → Int32) (m_ran : Nat → Int32) (m_told0 : Nat → Int32) (Wd : Nat) (R : Nat) (nr : Nat) (nc : Nat) (lit : Int32) (rule : Int32) (hG : mOK m_at Wd R nr nc) (hru : rule = -1 ∨ (¬ rule < 0 ∧ rule.toNatClampNeg < nr)) : Met l yX7_becomes (ws_ yX7_becomes cX7_becomes 7 (some .int)) (zR 2 0 0) (zPo G [.ref (ad 0), .int lit, .int rule] (mW G ad m_status m_top m_bottom m_taped m_size m_token m_from m_end m_value m_faultKind m_faultPlace m_faults m_seen m_depth m_counted m_lead m_round m_tried m_triedMany m_drawn m_ranSteps m_isTold m_marks m_at m_names m_sort m_trayMany m_trays m_tape m_text m_opened m_beside m_then m_ways m_further m_canBe m_loops m_ran m_told0)) (k2_QcV (.int (mf_becomes m_at m_beside Wd R lit rule))) 0 0 (fun _ => False) := by
  refine zr_entO (by decide) (Nat.le_of_ble_eq_true rfl) ?_
  intro p e s m below meth c ⟨hx, hb, hr, hml, hown, hts, hlocks, hnm⟩ ls hl hP hK hE
  have hown : s.vm.findClass RX7 = some m.cls := hown
  have hl : lv_has ls 7 [(0, .ref (ad 0)), (1, .int lit), (2, .int rule)] := hl
  have hWR := mOK_WR hG
  have hW0 := mOK_W0 hG
  have hW5 := mOK_W5 hG
  have hR0 := mOK_R0 hG
  have hR6 := mOK_R6 hG
  have hn4 := mOK_n4 hG
  have hc6 := mOK_c6 hG
  refine lv_aload_n hx hb dX7_becomes_0 rfl (lv_at hl 0 rfl) ?_
  refine va_get (D := G.1) (ci := 7) (v := .ref (ad 1)) (C := RX7) (T := TX7) (N := 39) hx hb hts in_X7 hown hK.1 hP 0 rfl rfl 0 (Nat.le_of_ble_eq_true rfl) (hts _ q1467) (fun _ h => h) rfl dX7_becomes_1 ?_
  refine lv_iconst (v := 3) hx hb dX7_becomes_4 (by decide) ?_
  refine zr_iald 3 (v := m_at 3) hx hb hK hP 1 rfl rfl (Nat.le_of_ble_eq_true rfl) rfl (by decide) rfl dX7_becomes_5 ?_
  refine lv_aload_n hx hb dX7_becomes_6 rfl (lv_at hl 0 rfl) ?_
  refine va_get (D := G.1) (ci := 7) (v := .ref (ad 1)) (C := RX7) (T := TX7) (N := 39) hx hb hts in_X7 hown hK.1 hP 0 rfl rfl 0 (Nat.le_of_ble_eq_true rfl) (hts _ q1467) (fun _ h => h) rfl dX7_becomes_7 ?_
  refine lv_iconst (v := 4) hx hb dX7_becomes_10 (by decide) ?_
  refine zr_iald 4 (v := m_at 4) hx hb hK hP 1 rfl rfl (Nat.le_of_ble_eq_true rfl) rfl (by decide) rfl dX7_becomes_11 ?_
  refine lv_iand hx hb dX7_becomes_12 ?_
  refine lv_istore_n (lv' := [(3, .int ((m_at 3) &&& (m_at 4))), (0, .ref (ad 0)), (1, .int lit), (2, .int rule)]) hx hb dX7_becomes_13 rfl hl (by decide) rfl (fun ls hl => ?_)
  refine lv_iload_n hx hb dX7_becomes_14 rfl (lv_at hl 3 rfl) ?_
  refine lv_iconst (v := (-1)) hx hb dX7_becomes_15 (by decide) ?_
  refine lv_icmp_ne (tgt := 21) hx hb dX7_becomes_16 (by decide) (fun c_1 => ?_) (fun c_1 => ?_)
  · obtain ⟨hq0, hq4⟩ := hru.resolve_left c_1
    refine lv_aload_n hx hb dX7_becomes_21 rfl (lv_at hl 1 rfl) ?_
    refine zr_obV ⟨hx, hb, hml, hown, hts⟩ (mt_mf_free l G ad m_status m_top m_bottom m_taped m_size m_token m_from m_end m_value m_faultKind m_faultPlace m_faults m_seen m_depth m_counted m_lead m_round m_tried m_triedMany m_drawn m_ranSteps m_isTold m_marks m_at m_names m_sort m_trayMany m_trays m_tape m_text m_opened m_beside m_then m_ways m_further m_canBe m_loops m_ran m_told0) (cwV 0 hts (lw_V q1855 q1857 qs102 q144 q1858) rfl rfl rfl hd_X7_free ⟨(Nat.le_of_ble_eq_true rfl), (Nat.le_of_ble_eq_true rfl)⟩) hP hK hE 0 7 rfl rfl rfl hl.1 rfl (Nat.le_of_ble_eq_true rfl) dX7_becomes_22 ⟨Nat.le_refl _, Nat.le_refl _⟩ ?_
    refine lv_istore (lv' := [(4, .int (mf_free m_at)), (3, .int ((m_at 3) &&& (m_at 4))), (0, .ref (ad 0)), (1, .int lit), (2, .int rule)]) hx hb dX7_becomes_25 hl (by decide) rfl (fun ls hl => ?_)
    refine lv_iconst (v := 0) hx hb dX7_becomes_27 (by decide) ?_
    refine lv_istore (lv' := [(5, .int 0), (4, .int (mf_free m_at)), (3, .int ((m_at 3) &&& (m_at 4))), (0, .ref (ad 0)), (1, .int lit), (2, .int rule)]) hx hb dX7_becomes_28 hl (by decide) rfl (fun ls hl => ?_)
    have hlp_2 : ∀ (n k_2 : Nat) (s_2 : Int32), k_2 ≤ Wd * R → Wd * R < k_2 + n → zf (mf_becomes_B30 m_at m_beside Wd R lit rule) ((m_at 3) &&& (m_at 4)) k_2 = s_2 → ∀ ls : Array Slot, lv_has ls 7 [(5, .int (nI k_2)), (4, .int (mf_free m_at)), (3, .int s_2), (0, .ref (ad 0)), (1, .int lit), (2, .int rule)] → W p l e (zR 2 0 0) s m ([.ref (ad 0), .int lit, .int rule] : List Value).toArray below meth c s.heap [] 0 0 (MQ below (k2_QcV (.int (mf_becomes m_at m_beside Wd R lit rule))) ([.ref (ad 0), .int lit, .int rule] : List Value).toArray s 0 0 (fun _ => False)) (F0 m 30 ls []) := by
      intro n
      induction n with
      | zero => intro k_2 s_2 h1 h2; exact absurd h2 (by omega)
      | succ n ih_2 =>
        intro k_2 s_2 hk_2 hn_2 hst_2 ls hl
        refine lv_iload hx hb dX7_becomes_30 (lv_at hl 0 rfl) ?_
        refine lv_aload_n hx hb dX7_becomes_32 rfl (lv_at hl 3 rfl) ?_
        refine zr_obV ⟨hx, hb, hml, hown, hts⟩ (mt_mf_places l G ad m_status m_top m_bottom m_taped m_size m_token m_from m_end m_value m_faultKind m_faultPlace m_faults m_seen m_depth m_counted m_lead m_round m_tried m_triedMany m_drawn m_ranSteps m_isTold m_marks m_at m_names m_sort m_trayMany m_trays m_tape m_text m_opened m_beside m_then m_ways m_further m_canBe m_loops m_ran m_told0 Wd R nr nc hG) (cwV 0 hts (lw_V q1815 q1817 qs97 q144 q1818) rfl rfl rfl hd_X7_places ⟨(Nat.le_of_ble_eq_true rfl), (Nat.le_of_ble_eq_true rfl)⟩) hP hK hE 0 7 rfl rfl rfl hl.1 rfl (Nat.le_of_ble_eq_true rfl) dX7_becomes_33 ⟨Nat.le_refl _, Nat.le_refl _⟩ ?_
        refine zr_ge k_2 (Wd * R) (by omega) (by omega) (tgt := 101) hx hb dX7_becomes_36 (by decide) (fun c_2 => ?_) (fun c_2 => ?_)
        · have ek_2 : k_2 = Wd * R := Nat.le_antisymm hk_2 c_2
          have hs_2 : mf_becomes_L30 m_at m_beside Wd R lit rule ((m_at 3) &&& (m_at 4)) = s_2 := by rw [ek_2] at hst_2; exact hst_2
          have hl := lv_sub hl (l' := _) [1, 2, 3, 4, 5] rfl
          refine lv_iload_n hx hb dX7_becomes_101 rfl (lv_at hl 1 rfl) ?_
          have e_ : mf_becomes m_at m_beside Wd R lit rule = s_2 := by rw [mf_becomes, if_neg c_1, zlet_eq hs_2]
          exact zr_oi hx hb hr hlocks dX7_becomes_102 (congrArg Value.int e_)
        · have hlt_2 : k_2 < Wd * R := Nat.lt_of_not_le c_2
          refine lv_iload hx hb dX7_becomes_39 (lv_at hl 1 rfl) ?_
          refine lv_iload hx hb dX7_becomes_41 (lv_at hl 0 rfl) ?_
          refine lv_ishr hx hb dX7_becomes_43 ?_
          refine lv_iconst (v := 1) hx hb dX7_becomes_44 (by decide) ?_
          refine lv_iand hx hb dX7_becomes_45 ?_
          refine lv_if_ne (tgt := 52) hx hb dX7_becomes_46 (by decide) (fun c_3 => ?_) (fun c_3 => ?_)
          · refine lv_aload_n hx hb dX7_becomes_52 rfl (lv_at hl 3 rfl) ?_
            refine va_get (D := G.1) (ci := 7) (v := .ref (ad 1)) (C := RX7) (T := TX7) (N := 39) hx hb hts in_X7 hown hK.1 hP 0 rfl rfl 0 (Nat.le_of_ble_eq_true rfl) (hts _ q1467) (fun _ h => h) rfl dX7_becomes_53 ?_
            refine lv_bipush (v := 12) hx hb dX7_becomes_56 (by decide) ?_
            refine lv_iconst (v := 2) hx hb dX7_becomes_58 (by decide) ?_
            refine lv_iload_n hx hb dX7_becomes_59 rfl (lv_at hl 5 rfl) ?_
            refine zr_val (congrArg Value.int (z_nn hq0)) ?_
            refine W.eq (g2 := F0 m 60 ls [.int (nI rule.toNatClampNeg), .int 2, .int 12, .ref (ad 1)]) rfl ?_
            refine zr_imulN 2 rule.toNatClampNeg hx hb dX7_becomes_60 ?_
            refine zr_iaddN 12 (2 * rule.toNatClampNeg) hx hb dX7_becomes_61 ?_
            refine lv_iload_n hx hb dX7_becomes_62 rfl (lv_at hl 4 rfl) ?_
            refine lv_iload hx hb dX7_becomes_63 (lv_at hl 0 rfl) ?_
            refine lv_ishr hx hb dX7_becomes_65 ?_
            refine lv_iconst (v := 1) hx hb dX7_becomes_66 (by decide) ?_
            refine lv_iand hx hb dX7_becomes_67 ?_
            have hb1 := z_b1le ((lit >>> (nI k_2 &&& 31)))
            refine zr_val (congrArg Value.int (z_b1 _)) ?_
            refine W.eq (g2 := F0 m 68 ls [.int (nI (((lit >>> ((nI k_2) &&& 31)) &&& 1).toNatClampNeg)), .int (nI (12 + (2 * rule.toNatClampNeg))), .ref (ad 1)]) rfl ?_
            refine zr_iaddN (12 + (2 * rule.toNatClampNeg)) (((lit >>> ((nI k_2) &&& 31)) &&& 1).toNatClampNeg) hx hb dX7_becomes_68 ?_
            refine zr_val (v' := .int (nI (12 + (2 * rule.toNatClampNeg) + (((lit >>> ((nI k_2) &&& 31)) &&& 1).toNatClampNeg)))) (by rfl) ?_
            refine zr_iald (12 + (2 * rule.toNatClampNeg) + (((lit >>> ((nI k_2) &&& 31)) &&& 1).toNatClampNeg)) (v := m_at (12 + (2 * rule.toNatClampNeg) + (((lit >>> ((nI k_2) &&& 31)) &&& 1).toNatClampNeg))) hx hb hK hP 1 rfl rfl (Nat.le_of_ble_eq_true rfl) rfl (by omega) rfl dX7_becomes_69 ?_
            refine lv_istore (lv' := [(6, .int (m_at (12 + (2 * rule.toNatClampNeg) + (((lit >>> ((nI k_2) &&& 31)) &&& 1).toNatClampNeg)))), (5, .int (nI k_2)), (4, .int (mf_free m_at)), (3, .int s_2), (0, .ref (ad 0)), (1, .int lit), (2, .int rule)]) hx hb dX7_becomes_70 hl (by decide) rfl (fun ls hl => ?_)
            refine lv_iload_n hx hb dX7_becomes_72 rfl (lv_at hl 3 rfl) ?_
            refine lv_iload hx hb dX7_becomes_73 (lv_at hl 0 rfl) ?_
            refine lv_aload_n hx hb dX7_becomes_75 rfl (lv_at hl 4 rfl) ?_
            refine va_get (D := G.1) (ci := 7) (v := .ref (ad 9)) (C := RX7) (T := TX7) (N := 39) hx hb hts in_X7 hown hK.1 hP 0 rfl rfl 23 (Nat.le_of_ble_eq_true rfl) (hts _ q1490) (fun _ h => h) rfl dX7_becomes_76 ?_
            refine lv_iload hx hb dX7_becomes_79 (lv_at hl 1 rfl) ?_
            refine zr_iald k_2 (v := m_beside k_2) hx hb hK hP 9 rfl rfl (Nat.le_of_ble_eq_true rfl) rfl (by omega) rfl dX7_becomes_81 ?_
            refine lv_iload_n hx hb dX7_becomes_82 rfl (lv_at hl 5 rfl) ?_
            refine lv_iand hx hb dX7_becomes_83 ?_
            refine zr_puS ⟨hx, hb, hml, hown, hts⟩ (mt_bitsN l ((m_beside k_2) &&& lit)) (va_cwS 1 hts (lw_S q1744 q1745 q144 q1746) rfl rfl rfl hd_X7_bits.2 ⟨(Nat.le_of_ble_eq_true rfl), (Nat.le_of_ble_eq_true rfl)⟩) rfl hl.1 rfl (Nat.le_of_ble_eq_true rfl) dX7_becomes_84 ⟨Nat.le_refl _, Nat.le_refl _⟩ ?_
            refine lv_ishr hx hb dX7_becomes_87 ?_
            refine lv_iconst (v := 1) hx hb dX7_becomes_88 (by decide) ?_
            refine lv_iand hx hb dX7_becomes_89 ?_
            refine lv_iload hx hb dX7_becomes_90 (lv_at hl 1 rfl) ?_
            refine lv_ishl hx hb dX7_becomes_92 ?_
            refine lv_ior hx hb dX7_becomes_93 ?_
            refine lv_istore_n (lv' := [(3, .int (s_2 ||| ((((m_at (12 + (2 * rule.toNatClampNeg) + (((lit >>> ((nI k_2) &&& 31)) &&& 1).toNatClampNeg))) >>> ((nI (zpc ((m_beside k_2) &&& lit))) &&& 31)) &&& 1) <<< ((nI k_2) &&& 31)))), (6, .int (m_at (12 + (2 * rule.toNatClampNeg) + (((lit >>> ((nI k_2) &&& 31)) &&& 1).toNatClampNeg)))), (5, .int (nI k_2)), (4, .int (mf_free m_at)), (0, .ref (ad 0)), (1, .int lit), (2, .int rule)]) hx hb dX7_becomes_94 rfl hl (by decide) rfl (fun ls hl => ?_)
            refine lv_iinc (v := nI (k_2 + 1)) (lv' := [(5, .int (nI (k_2 + 1))), (3, .int (s_2 ||| ((((m_at (12 + (2 * rule.toNatClampNeg) + (((lit >>> ((nI k_2) &&& 31)) &&& 1).toNatClampNeg))) >>> ((nI (zpc ((m_beside k_2) &&& lit))) &&& 31)) &&& 1) <<< ((nI k_2) &&& 31)))), (6, .int (m_at (12 + (2 * rule.toNatClampNeg) + (((lit >>> ((nI k_2) &&& 31)) &&& 1).toNatClampNeg)))), (4, .int (mf_free m_at)), (0, .ref (ad 0)), (1, .int lit), (2, .int rule)]) hx hb dX7_becomes_95 hl (k := 2) rfl (nI_add k_2 1) (by decide) rfl (fun ls hl => ?_)
            refine lv_goto (tgt := 30) hx hb dX7_becomes_98 (by decide) ?_
            exact ih_2 (k_2 + 1) (s_2 ||| ((((m_at (12 + (2 * rule.toNatClampNeg) + (((lit >>> ((nI k_2) &&& 31)) &&& 1).toNatClampNeg))) >>> ((nI (zpc ((m_beside k_2) &&& lit))) &&& 31)) &&& 1) <<< ((nI k_2) &&& 31))) hlt_2 (by omega) (zf_s hst_2 (by rw [mf_becomes_B30, if_neg c_3])) ls (lv_sub hl [0, 3, 1, 4, 5, 6] rfl)
          · refine lv_goto (tgt := 95) hx hb dX7_becomes_49 (by decide) ?_
            refine lv_iinc (v := nI (k_2 + 1)) (lv' := [(5, .int (nI (k_2 + 1))), (4, .int (mf_free m_at)), (3, .int s_2), (0, .ref (ad 0)), (1, .int lit), (2, .int rule)]) hx hb dX7_becomes_95 hl (k := 0) rfl (nI_add k_2 1) (by decide) rfl (fun ls hl => ?_)
            refine lv_goto (tgt := 30) hx hb dX7_becomes_98 (by decide) ?_
            exact ih_2 (k_2 + 1) s_2 hlt_2 (by omega) (zf_s hst_2 (by rw [mf_becomes_B30, if_pos c_3])) ls (lv_sub hl [0, 1, 2, 3, 4, 5] rfl)
    exact hlp_2 ((Wd * R) + 1) 0 ((m_at 3) &&& (m_at 4)) (Nat.zero_le _) (by omega) rfl ls (lv_sub hl [0, 1, 2, 3, 4, 5] rfl)
  · refine lv_iload_n hx hb dX7_becomes_19 rfl (lv_at hl 0 rfl) ?_
    have e_ : mf_becomes m_at m_beside Wd R lit rule = (m_at 3) &&& (m_at 4) := by rw [mf_becomes, if_pos c_1]
    exact zr_oi hx hb hr hlocks dX7_becomes_20 (congrArg Value.int e_)
