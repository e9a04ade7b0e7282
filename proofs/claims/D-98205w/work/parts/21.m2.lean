def mTR (t : Nat → Int32) : Prop := ∀ k, k < 4 → t k = -1 ∨ (¬ t k < 0 ∧ (t k).toNatClampNeg ≤ 60)
theorem mTR_s {t : Nat → Int32} {k : Nat} {x : Int32} (h : mTR t) (hx : ¬ x < 0 ∧ x.toNatClampNeg ≤ 60) : mTR (upd t k x) := by
  intro j hj
  by_cases e : j = k
  · subst e; rw [pk_us]; exact Or.inr hx
  · rw [pk_un e]; exact h j hj

def mf_wrongPlace (m_trayMany : Nat → Int32) (tray : Int32) (place : Int32) : Int32 :=
  (if (mf_isTray tray) = true then
    (if (m_trayMany tray.toNatClampNeg) = (-1) then
      2
    else
      (if place < 0 then
        3
      else
        (if place < (m_trayMany tray.toNatClampNeg) then
          0
        else
          3)))
  else
    1)
theorem hd_X7_wrongPlace : yX7_wrongPlace.cls = RX7 ∧ yX7_wrongPlace.cls ≠ "java/lang/invoke/MethodHandle" ∧ yX7_wrongPlace.cls ≠ "java/lang/invoke/VarHandle" ∧ (parseMethodDescriptor yX7_wrongPlace.desc).map (fun d => d.parameters.length) = some 2 := by decide +kernel
set_option maxHeartbeats 4000000 in
set_option maxRecDepth 100000 in
theorem mt_mf_wrongPlace (l : Launch) (G : zG) (ad : Nat → Nat) (m_status : Int32) (m_top : Int64) (m_bottom : Int64) (m_taped : Int32) (m_size : Int32) (m_token : Int32) (m_from : Int32) (m_end : Int32) (m_value : Int32) (m_faultKind : Int32) (m_faultPlace : Int32) (m_faults : Int32) (m_seen : Int32) (m_depth : Int32) (m_counted : Int32) (m_lead : Int32) (m_round : Int32) (m_tried : Int32) (m_triedMany : Int32) (m_drawn : Int32) (m_ranSteps : Int32) (m_isTold : Bool) (m_marks : Int32) (m_at : Nat → Int32) (m_names : Nat → Int64) (m_sort : Nat → Int32) (m_trayMany : Nat → Int32) (m_trays : Nat → Int64) (m_tape : Nat → Int32) (m_text : Nat → Int32) (m_opened : Nat → Int32) (m_beside : Nat → Int32) (m_then : Nat → Int32) (m_ways : Nat → Int64) (m_further : Nat → Int64) (m_canBe : Nat → Int32) (m_loops : Nat → Int32) (m_ran : Nat → Int32) (m_told0 : Nat → Int32) (tray : Int32) (place : Int32) : Met l yX7_wrongPlace (ws_ yX7_wrongPlace cX7_wrongPlace 3 (some .int)) (zR 2 0 0) (zPo G [.ref (ad 0), .int tray, .int place] (mW G ad m_status m_top m_bottom m_taped m_size m_token m_from m_end m_value m_faultKind m_faultPlace m_faults m_seen m_depth m_counted m_lead m_round m_tried m_triedMany m_drawn m_ranSteps m_isTold m_marks m_at m_names m_sort m_trayMany m_trays m_tape m_text m_opened m_beside m_then m_ways m_further m_canBe m_loops m_ran m_told0)) (k2_QcV (.int (mf_wrongPlace m_trayMany tray place))) 0 0 (fun _ => False) := by
  refine zr_entO (by decide) (Nat.le_of_ble_eq_true rfl) ?_
  intro p e s m below meth c ⟨hx, hb, hr, hml, hown, hts, hlocks, hnm⟩ ls hl hP hK hE
  have hown : s.vm.findClass RX7 = some m.cls := hown
  have hl : lv_has ls 3 [(0, .ref (ad 0)), (1, .int tray), (2, .int place)] := hl
  refine lv_iload_n hx hb dX7_wrongPlace_0 rfl (lv_at hl 1 rfl) ?_
  refine zr_puS ⟨hx, hb, hml, hown, hts⟩ (mt_mf_isTray l tray) (va_cwS 1 hts (lw_S q1601 q1602 q144 q1603) rfl rfl rfl hd_X7_isTray.2 ⟨(Nat.le_of_ble_eq_true rfl), (Nat.le_of_ble_eq_true rfl)⟩) rfl hl.1 rfl (Nat.le_of_ble_eq_true rfl) dX7_wrongPlace_1 ⟨Nat.le_refl _, Nat.le_refl _⟩ ?_
  refine zr_neB (mf_isTray tray) (tgt := 11) hx hb dX7_wrongPlace_4 (by decide) (fun c_1 => ?_) (fun c_1 => ?_)
  · obtain ⟨hz0, hz1⟩ := isTray_t c_1
    refine lv_aload_n hx hb dX7_wrongPlace_11 rfl (lv_at hl 0 rfl) ?_
    refine va_get (D := G.1) (ci := 7) (v := .ref (ad 4)) (C := RX7) (T := TX7) (N := 39) hx hb hts in_X7 hown hK.1 hP 0 rfl rfl 6 (Nat.le_of_ble_eq_true rfl) (hts _ q1473) (fun _ h => h) rfl dX7_wrongPlace_12 ?_
    refine lv_iload_n hx hb dX7_wrongPlace_15 rfl (lv_at hl 1 rfl) ?_
    refine zr_iald tray.toNatClampNeg (v := m_trayMany tray.toNatClampNeg) hx hb hK hP 4 rfl rfl (Nat.le_of_ble_eq_true rfl) (z_nn (by assumption)) (by omega) rfl dX7_wrongPlace_16 ?_
    refine lv_iconst (v := (-1)) hx hb dX7_wrongPlace_17 (by decide) ?_
    refine lv_icmp_ne (tgt := 25) hx hb dX7_wrongPlace_18 (by decide) (fun c_2 => ?_) (fun c_2 => ?_)
    · refine lv_iload_n hx hb dX7_wrongPlace_25 rfl (lv_at hl 2 rfl) ?_
      refine lv_if_lt (tgt := 39) hx hb dX7_wrongPlace_26 (by decide) (fun c_3 => ?_) (fun c_3 => ?_)
      · refine lv_iconst (v := 3) hx hb dX7_wrongPlace_39 (by decide) ?_
        refine lv_goto (tgt := 44) hx hb dX7_wrongPlace_40 (by decide) ?_
        have e_ : mf_wrongPlace m_trayMany tray place = 3 := by rw [mf_wrongPlace, if_pos c_1, if_neg c_2, if_pos c_3]
        exact zr_oi hx hb hr hlocks dX7_wrongPlace_44 (congrArg Value.int e_)
      · refine lv_iload_n hx hb dX7_wrongPlace_29 rfl (lv_at hl 2 rfl) ?_
        refine lv_aload_n hx hb dX7_wrongPlace_30 rfl (lv_at hl 0 rfl) ?_
        refine va_get (D := G.1) (ci := 7) (v := .ref (ad 4)) (C := RX7) (T := TX7) (N := 39) hx hb hts in_X7 hown hK.1 hP 0 rfl rfl 6 (Nat.le_of_ble_eq_true rfl) (hts _ q1473) (fun _ h => h) rfl dX7_wrongPlace_31 ?_
        refine lv_iload_n hx hb dX7_wrongPlace_34 rfl (lv_at hl 1 rfl) ?_
        refine zr_iald tray.toNatClampNeg (v := m_trayMany tray.toNatClampNeg) hx hb hK hP 4 rfl rfl (Nat.le_of_ble_eq_true rfl) (z_nn (by assumption)) (by omega) rfl dX7_wrongPlace_35 ?_
        refine lv_icmp_lt (tgt := 43) hx hb dX7_wrongPlace_36 (by decide) (fun c_4 => ?_) (fun c_4 => ?_)
        · refine lv_iconst (v := 0) hx hb dX7_wrongPlace_43 (by decide) ?_
          have e_ : mf_wrongPlace m_trayMany tray place = 0 := by rw [mf_wrongPlace, if_pos c_1, if_neg c_2, if_neg c_3, if_pos c_4]
          exact zr_oi hx hb hr hlocks dX7_wrongPlace_44 (congrArg Value.int e_)
        · refine lv_iconst (v := 3) hx hb dX7_wrongPlace_39 (by decide) ?_
          refine lv_goto (tgt := 44) hx hb dX7_wrongPlace_40 (by decide) ?_
          have e_ : mf_wrongPlace m_trayMany tray place = 3 := by rw [mf_wrongPlace, if_pos c_1, if_neg c_2, if_neg c_3, if_neg c_4]
          exact zr_oi hx hb hr hlocks dX7_wrongPlace_44 (congrArg Value.int e_)
    · refine lv_iconst (v := 2) hx hb dX7_wrongPlace_21 (by decide) ?_
      refine lv_goto (tgt := 44) hx hb dX7_wrongPlace_22 (by decide) ?_
      have e_ : mf_wrongPlace m_trayMany tray place = 2 := by rw [mf_wrongPlace, if_pos c_1, if_pos c_2]
      exact zr_oi hx hb hr hlocks dX7_wrongPlace_44 (congrArg Value.int e_)
  · refine lv_iconst (v := 1) hx hb dX7_wrongPlace_7 (by decide) ?_
    refine lv_goto (tgt := 44) hx hb dX7_wrongPlace_8 (by decide) ?_
    have e_ : mf_wrongPlace m_trayMany tray place = 1 := by rw [mf_wrongPlace, if_neg c_1]
    exact zr_oi hx hb hr hlocks dX7_wrongPlace_44 (congrArg Value.int e_)
theorem wrongPlace_0 {m_trayMany : Nat → Int32} {tray place : Int32} (hT : mTR m_trayMany) (h : mf_wrongPlace m_trayMany tray place ≤ 0) : (¬ tray < 0 ∧ tray.toNatClampNeg < 4) ∧ ¬ place < 0 ∧ place.toNatClampNeg < 60 := by
  unfold mf_wrongPlace at h
  by_cases h1 : mf_isTray tray = true
  · rw [if_pos h1] at h
    have q := isTray_t h1
    by_cases h2 : m_trayMany tray.toNatClampNeg = -1
    · rw [if_pos h2] at h; exact absurd h (by decide)
    · rw [if_neg h2] at h
      by_cases h3 : place < 0
      · rw [if_pos h3] at h; exact absurd h (by decide)
      · rw [if_neg h3] at h
        by_cases h4 : place < m_trayMany tray.toNatClampNeg
        · have r := (hT _ q.2).resolve_left h2
          refine ⟨q, h3, ?_⟩
          have := z_nn r.1
          rw [this] at h4
          exact Nat.lt_of_lt_of_le (z_lt _ (z_nb r.1) h3 h4) r.2
        · rw [if_neg h4] at h; exact absurd h (by decide)
  · rw [if_neg h1] at h; exact absurd h (by decide)
def mf_tray_B49 (tray : Int32) (many : Int32) (k_10 : Nat) (s_10 : (Nat → Int64)) : (Nat → Int64) :=
  vp_updL s_10 (60 * tray.toNatClampNeg + k_10) 0
def mf_tray_L49 (tray : Int32) (many : Int32) (s_10 : (Nat → Int64)) : (Nat → Int64) := zf (mf_tray_B49 tray many) s_10 many.toNatClampNeg
def mf_tray (m_sort : Nat → Int32) (m_trayMany : Nat → Int32) (m_trays : Nat → Int64) (tray : Int32) (so : Int32) (many : Int32) : Bool × Int32 × (Nat → Int32) × (Nat → Int32) × (Nat → Int64) :=
  (if (mf_isTray tray) = true then
    (if so < 0 then
      (false, 1, m_sort, m_trayMany, m_trays)
    else
      (if 3 < so then
        (false, 1, m_sort, m_trayMany, m_trays)
      else
        (if many < 0 then
          (false, 1, m_sort, m_trayMany, m_trays)
        else
          (if many ≤ 60 then
            zlet (mf_tray_L49 tray many m_trays) (fun s_10 =>
            (true, 0, upd m_sort tray.toNatClampNeg so, upd m_trayMany tray.toNatClampNeg many, s_10))
          else
            (false, 1, m_sort, m_trayMany, m_trays)))))
  else
    (false, 1, m_sort, m_trayMany, m_trays))
theorem hd_X7_tray : yX7_tray.cls = RX7 ∧ yX7_tray.cls ≠ "java/lang/invoke/MethodHandle" ∧ yX7_tray.cls ≠ "java/lang/invoke/VarHandle" ∧ (parseMethodDescriptor yX7_tray.desc).map (fun d => d.parameters.length) = some 3 := by decide +kernel
set_option maxHeartbeats 4000000 in
set_option maxRecDepth 100000 in
theorem mt_mf_tray (l : Launch) (G : zG) (ad : Nat → Nat) (m_status : Int32) (m_top : Int64) (m_bottom : Int64) (m_taped : Int32) (m_size : Int32) (m_token : Int32) (m_from : Int32) (m_end : Int32) (m_value : Int32) (m_faultKind : Int32) (m_faultPlace : Int32) (m_faults : Int32) (m_seen : Int32) (m_depth : Int32) (m_counted : Int32) (m_lead : Int32) (m_round : Int32) (m_tried : Int32) (m_triedMany : Int32) (m_drawn : Int32) (m_ranSteps : Int32) (m_isTold : Bool) (m_marks : Int32) (m_at : Nat → Int32) (m_names : Nat → Int64) (m_sort : Nat → Int32) (m_trayMany : Nat → Int32) (m_trays : Nat → Int64) (m_tape : Nat → Int32) (m_text : Nat → Int32) (m_opened : Nat → Int32) (m_beside : Nat → Int32) (m_then : Nat → Int32) (m_ways : Nat → Int64) (m_further : Nat → Int64) (m_canBe : Nat → Int32) (m_loops : Nat → Int32) (m_ran : Nat → Int32) (m_told0 : Nat → Int32) (tray : Int32) (so : Int32) (many : Int32) (sz : Nat) : Met l yX7_tray (ws_ yX7_tray cX7_tray 5 (some .boolean)) (zR 2 0 0) (zPm G sz [.ref (ad 0), .int tray, .int so, .int many] (mW G ad m_status m_top m_bottom m_taped m_size m_token m_from m_end m_value m_faultKind m_faultPlace m_faults m_seen m_depth m_counted m_lead m_round m_tried m_triedMany m_drawn m_ranSteps m_isTold m_marks m_at m_names m_sort m_trayMany m_trays m_tape m_text m_opened m_beside m_then m_ways m_further m_canBe m_loops m_ran m_told0)) (zQm G (True) (some (.int (zb ((mf_tray m_sort m_trayMany m_trays tray so many).1)))) (mW G ad ((mf_tray m_sort m_trayMany m_trays tray so many).2.1) m_top m_bottom m_taped m_size m_token m_from m_end m_value m_faultKind m_faultPlace m_faults m_seen m_depth m_counted m_lead m_round m_tried m_triedMany m_drawn m_ranSteps m_isTold m_marks m_at m_names ((mf_tray m_sort m_trayMany m_trays tray so many).2.2.1) ((mf_tray m_sort m_trayMany m_trays tray so many).2.2.2.1) ((mf_tray m_sort m_trayMany m_trays tray so many).2.2.2.2) m_tape m_text m_opened m_beside m_then m_ways m_further m_canBe m_loops m_ran m_told0) (va_A (mW G ad m_status m_top m_bottom m_taped m_size m_token m_from m_end m_value m_faultKind m_faultPlace m_faults m_seen m_depth m_counted m_lead m_round m_tried m_triedMany m_drawn m_ranSteps m_isTold m_marks m_at m_names m_sort m_trayMany m_trays m_tape m_text m_opened m_beside m_then m_ways m_further m_canBe m_loops m_ran m_told0) sz)) 0 0 (va_A (mW G ad m_status m_top m_bottom m_taped m_size m_token m_from m_end m_value m_faultKind m_faultPlace m_faults m_seen m_depth m_counted m_lead m_round m_tried m_triedMany m_drawn m_ranSteps m_isTold m_marks m_at m_names m_sort m_trayMany m_trays m_tape m_text m_opened m_beside m_then m_ways m_further m_canBe m_loops m_ran m_told0) sz) := by
  refine zr_entM (by decide) (Nat.le_of_ble_eq_true rfl) ?_
  intro p e s m below meth c ⟨hx, hb, hr, hml, hown, hts, hlocks, hnm⟩ ls hl hP hK A hE hA hD hS
  have hown : s.vm.findClass RX7 = some m.cls := hown
  have hl : lv_has ls 5 [(0, .ref (ad 0)), (1, .int tray), (2, .int so), (3, .int many)] := hl
  obtain ⟨H, hH⟩ : ∃ H, H = s.heap := ⟨_, rfl⟩
  obtain ⟨locs, hlo⟩ : ∃ L : List Loc, L = [] := ⟨_, rfl⟩
  rw [← hH] at hP
  have hS : va_S A s.heap H locs := by rw [hH, hlo]; exact va_S.rf
  have hgo : W p l e (zR 2 0 0) s m ([.ref (ad 0), .int tray, .int so, .int many] : List Value).toArray below meth c H locs 0 0 (MQ below (zQm G (True) (some (.int (zb ((mf_tray m_sort m_trayMany m_trays tray so many).1)))) (mW G ad ((mf_tray m_sort m_trayMany m_trays tray so many).2.1) m_top m_bottom m_taped m_size m_token m_from m_end m_value m_faultKind m_faultPlace m_faults m_seen m_depth m_counted m_lead m_round m_tried m_triedMany m_drawn m_ranSteps m_isTold m_marks m_at m_names ((mf_tray m_sort m_trayMany m_trays tray so many).2.2.1) ((mf_tray m_sort m_trayMany m_trays tray so many).2.2.2.1) ((mf_tray m_sort m_trayMany m_trays tray so many).2.2.2.2) m_tape m_text m_opened m_beside m_then m_ways m_further m_canBe m_loops m_ran m_told0) A) ([.ref (ad 0), .int tray, .int so, .int many] : List Value).toArray s 0 0 A) (F0 m 0 ls []) := ?_
  · rw [hH, hlo] at hgo; exact hgo
  clear hH hlo
  refine lv_iload_n hx hb dX7_tray_0 rfl (lv_at hl 1 rfl) ?_
  refine zr_puS ⟨hx, hb, hml, hown, hts⟩ (mt_mf_isTray l tray) (va_cwS 1 hts (lw_S q1601 q1602 q144 q1603) rfl rfl rfl hd_X7_isTray.2 ⟨(Nat.le_of_ble_eq_true rfl), (Nat.le_of_ble_eq_true rfl)⟩) rfl hl.1 rfl (Nat.le_of_ble_eq_true rfl) dX7_tray_1 ⟨Nat.le_refl _, Nat.le_refl _⟩ ?_
  refine zr_eqB (mf_isTray tray) (tgt := 26) hx hb dX7_tray_4 (by decide) (fun c_1 => ?_) (fun c_1 => ?_)
  · refine lv_aload_n hx hb dX7_tray_26 rfl (lv_at hl 0 rfl) ?_
    refine lv_iconst (v := 1) hx hb dX7_tray_27 (by decide) ?_
    refine zr_muV (F := ()) (ff := fun _ => True) (rr := fun _ => some (.int (zb (decide ((1 : Int32) = 0))))) (w1 := fun _ => (mW G ad 1 m_top m_bottom m_taped m_size m_token m_from m_end m_value m_faultKind m_faultPlace m_faults m_seen m_depth m_counted m_lead m_round m_tried m_triedMany m_drawn m_ranSteps m_isTold m_marks m_at m_names m_sort m_trayMany m_trays m_tape m_text m_opened m_beside m_then m_ways m_further m_canBe m_loops m_ran m_told0)) ⟨hx, hb, hml, hown, hts⟩ (mt_mf_is l G ad m_status m_top m_bottom m_taped m_size m_token m_from m_end m_value m_faultKind m_faultPlace m_faults m_seen m_depth m_counted m_lead m_round m_tried m_triedMany m_drawn m_ranSteps m_isTold m_marks m_at m_names m_sort m_trayMany m_trays m_tape m_text m_opened m_beside m_then m_ways m_further m_canBe m_loops m_ran m_told0 1 H.size) (cwV 1 hts (lw_V q1604 q1606 qs60 q144 q1607) rfl rfl rfl hd_X7_is ⟨(Nat.le_of_ble_eq_true rfl), (Nat.le_of_ble_eq_true rfl)⟩) hP hD hS hA hK hE 0 7 rfl rfl rfl hl.1 rfl (Nat.le_of_ble_eq_true rfl) dX7_tray_28 ⟨Nat.le_refl _, Nat.le_refl _⟩ (fun _ _ _ H locs hP hD hS _ => ?_)
    refine W.eq (g2 := F0 m 31 ls [.int (zb (decide ((1 : Int32) = 0)))]) rfl ?_
    refine zr_val (v' := .int 0) (congrArg Value.int (by decide)) ?_
    have e_ : mf_tray m_sort m_trayMany m_trays tray so many = (false, 1, m_sort, m_trayMany, m_trays) := by rw [mf_tray, if_neg c_1]
    exact zr_mz hx hb hr hlocks hP hD hS dX7_tray_31 rfl (by rw [e_]; rfl) (by rw [e_]) trivial
  · obtain ⟨hz0, hz1⟩ := isTray_t c_1
    refine lv_iload_n hx hb dX7_tray_7 rfl (lv_at hl 2 rfl) ?_
    refine lv_if_lt (tgt := 26) hx hb dX7_tray_8 (by decide) (fun c_3 => ?_) (fun c_3 => ?_)
    · refine lv_aload_n hx hb dX7_tray_26 rfl (lv_at hl 0 rfl) ?_
      refine lv_iconst (v := 1) hx hb dX7_tray_27 (by decide) ?_
      refine zr_muV (F := ()) (ff := fun _ => True) (rr := fun _ => some (.int (zb (decide ((1 : Int32) = 0))))) (w1 := fun _ => (mW G ad 1 m_top m_bottom m_taped m_size m_token m_from m_end m_value m_faultKind m_faultPlace m_faults m_seen m_depth m_counted m_lead m_round m_tried m_triedMany m_drawn m_ranSteps m_isTold m_marks m_at m_names m_sort m_trayMany m_trays m_tape m_text m_opened m_beside m_then m_ways m_further m_canBe m_loops m_ran m_told0)) ⟨hx, hb, hml, hown, hts⟩ (mt_mf_is l G ad m_status m_top m_bottom m_taped m_size m_token m_from m_end m_value m_faultKind m_faultPlace m_faults m_seen m_depth m_counted m_lead m_round m_tried m_triedMany m_drawn m_ranSteps m_isTold m_marks m_at m_names m_sort m_trayMany m_trays m_tape m_text m_opened m_beside m_then m_ways m_further m_canBe m_loops m_ran m_told0 1 H.size) (cwV 1 hts (lw_V q1604 q1606 qs60 q144 q1607) rfl rfl rfl hd_X7_is ⟨(Nat.le_of_ble_eq_true rfl), (Nat.le_of_ble_eq_true rfl)⟩) hP hD hS hA hK hE 0 7 rfl rfl rfl hl.1 rfl (Nat.le_of_ble_eq_true rfl) dX7_tray_28 ⟨Nat.le_refl _, Nat.le_refl _⟩ (fun _ _ _ H locs hP hD hS _ => ?_)
      refine W.eq (g2 := F0 m 31 ls [.int (zb (decide ((1 : Int32) = 0)))]) rfl ?_
      refine zr_val (v' := .int 0) (congrArg Value.int (by decide)) ?_
      have e_ : mf_tray m_sort m_trayMany m_trays tray so many = (false, 1, m_sort, m_trayMany, m_trays) := by rw [mf_tray, if_pos c_1, if_pos c_3]
      exact zr_mz hx hb hr hlocks hP hD hS dX7_tray_31 rfl (by rw [e_]; rfl) (by rw [e_]) trivial
    · refine lv_iload_n hx hb dX7_tray_11 rfl (lv_at hl 2 rfl) ?_
      refine lv_iconst (v := 3) hx hb dX7_tray_12 (by decide) ?_
      refine lv_icmp_gt (tgt := 26) hx hb dX7_tray_13 (by decide) (fun c_5 => ?_) (fun c_5 => ?_)
      · refine lv_aload_n hx hb dX7_tray_26 rfl (lv_at hl 0 rfl) ?_
        refine lv_iconst (v := 1) hx hb dX7_tray_27 (by decide) ?_
        refine zr_muV (F := ()) (ff := fun _ => True) (rr := fun _ => some (.int (zb (decide ((1 : Int32) = 0))))) (w1 := fun _ => (mW G ad 1 m_top m_bottom m_taped m_size m_token m_from m_end m_value m_faultKind m_faultPlace m_faults m_seen m_depth m_counted m_lead m_round m_tried m_triedMany m_drawn m_ranSteps m_isTold m_marks m_at m_names m_sort m_trayMany m_trays m_tape m_text m_opened m_beside m_then m_ways m_further m_canBe m_loops m_ran m_told0)) ⟨hx, hb, hml, hown, hts⟩ (mt_mf_is l G ad m_status m_top m_bottom m_taped m_size m_token m_from m_end m_value m_faultKind m_faultPlace m_faults m_seen m_depth m_counted m_lead m_round m_tried m_triedMany m_drawn m_ranSteps m_isTold m_marks m_at m_names m_sort m_trayMany m_trays m_tape m_text m_opened m_beside m_then m_ways m_further m_canBe m_loops m_ran m_told0 1 H.size) (cwV 1 hts (lw_V q1604 q1606 qs60 q144 q1607) rfl rfl rfl hd_X7_is ⟨(Nat.le_of_ble_eq_true rfl), (Nat.le_of_ble_eq_true rfl)⟩) hP hD hS hA hK hE 0 7 rfl rfl rfl hl.1 rfl (Nat.le_of_ble_eq_true rfl) dX7_tray_28 ⟨Nat.le_refl _, Nat.le_refl _⟩ (fun _ _ _ H locs hP hD hS _ => ?_)
        refine W.eq (g2 := F0 m 31 ls [.int (zb (decide ((1 : Int32) = 0)))]) rfl ?_
        refine zr_val (v' := .int 0) (congrArg Value.int (by decide)) ?_
        have e_ : mf_tray m_sort m_trayMany m_trays tray so many = (false, 1, m_sort, m_trayMany, m_trays) := by rw [mf_tray, if_pos c_1, if_neg c_3, if_pos c_5]
        exact zr_mz hx hb hr hlocks hP hD hS dX7_tray_31 rfl (by rw [e_]; rfl) (by rw [e_]) trivial
      · refine lv_iload_n hx hb dX7_tray_16 rfl (lv_at hl 3 rfl) ?_
        refine lv_if_lt (tgt := 26) hx hb dX7_tray_17 (by decide) (fun c_7 => ?_) (fun c_7 => ?_)
        · refine lv_aload_n hx hb dX7_tray_26 rfl (lv_at hl 0 rfl) ?_
          refine lv_iconst (v := 1) hx hb dX7_tray_27 (by decide) ?_
          refine zr_muV (F := ()) (ff := fun _ => True) (rr := fun _ => some (.int (zb (decide ((1 : Int32) = 0))))) (w1 := fun _ => (mW G ad 1 m_top m_bottom m_taped m_size m_token m_from m_end m_value m_faultKind m_faultPlace m_faults m_seen m_depth m_counted m_lead m_round m_tried m_triedMany m_drawn m_ranSteps m_isTold m_marks m_at m_names m_sort m_trayMany m_trays m_tape m_text m_opened m_beside m_then m_ways m_further m_canBe m_loops m_ran m_told0)) ⟨hx, hb, hml, hown, hts⟩ (mt_mf_is l G ad m_status m_top m_bottom m_taped m_size m_token m_from m_end m_value m_faultKind m_faultPlace m_faults m_seen m_depth m_counted m_lead m_round m_tried m_triedMany m_drawn m_ranSteps m_isTold m_marks m_at m_names m_sort m_trayMany m_trays m_tape m_text m_opened m_beside m_then m_ways m_further m_canBe m_loops m_ran m_told0 1 H.size) (cwV 1 hts (lw_V q1604 q1606 qs60 q144 q1607) rfl rfl rfl hd_X7_is ⟨(Nat.le_of_ble_eq_true rfl), (Nat.le_of_ble_eq_true rfl)⟩) hP hD hS hA hK hE 0 7 rfl rfl rfl hl.1 rfl (Nat.le_of_ble_eq_true rfl) dX7_tray_28 ⟨Nat.le_refl _, Nat.le_refl _⟩ (fun _ _ _ H locs hP hD hS _ => ?_)
          refine W.eq (g2 := F0 m 31 ls [.int (zb (decide ((1 : Int32) = 0)))]) rfl ?_
          refine zr_val (v' := .int 0) (congrArg Value.int (by decide)) ?_
          have e_ : mf_tray m_sort m_trayMany m_trays tray so many = (false, 1, m_sort, m_trayMany, m_trays) := by rw [mf_tray, if_pos c_1, if_neg c_3, if_neg c_5, if_pos c_7]
          exact zr_mz hx hb hr hlocks hP hD hS dX7_tray_31 rfl (by rw [e_]; rfl) (by rw [e_]) trivial
        · have c_mn := c_7
          refine lv_iload_n hx hb dX7_tray_20 rfl (lv_at hl 3 rfl) ?_
          refine lv_bipush (v := 60) hx hb dX7_tray_21 (by decide) ?_
          refine lv_icmp_le (tgt := 32) hx hb dX7_tray_23 (by decide) (fun c_9 => ?_) (fun c_9 => ?_)
          · have hmb := z_le 60 (by decide) c_mn c_9
            refine lv_aload_n hx hb dX7_tray_32 rfl (lv_at hl 0 rfl) ?_
            refine va_get (D := G.1) (ci := 7) (v := .ref (ad 3)) (C := RX7) (T := TX7) (N := 39) hx hb hts in_X7 hown hK.1 hP 0 rfl rfl 5 (Nat.le_of_ble_eq_true rfl) (hts _ q1472) (fun _ h => h) rfl dX7_tray_33 ?_
            refine lv_iload_n hx hb dX7_tray_36 rfl (lv_at hl 1 rfl) ?_
            refine lv_iload_n hx hb dX7_tray_37 rfl (lv_at hl 2 rfl) ?_
            refine zr_iast tray.toNatClampNeg (ws' := (mW G ad m_status m_top m_bottom m_taped m_size m_token m_from m_end m_value m_faultKind m_faultPlace m_faults m_seen m_depth m_counted m_lead m_round m_tried m_triedMany m_drawn m_ranSteps m_isTold m_marks m_at m_names (upd m_sort tray.toNatClampNeg so) m_trayMany m_trays m_tape m_text m_opened m_beside m_then m_ways m_further m_canBe m_loops m_ran m_told0)) hx hb hK hP hD hS 3 rfl rfl (Nat.le_of_ble_eq_true rfl) (z_nn (by assumption)) (by omega) rfl dX7_tray_38 (fun H locs hP hD hS => ?_)
            refine lv_aload_n hx hb dX7_tray_39 rfl (lv_at hl 0 rfl) ?_
            refine va_get (D := G.1) (ci := 7) (v := .ref (ad 4)) (C := RX7) (T := TX7) (N := 39) hx hb hts in_X7 hown hK.1 hP 0 rfl rfl 6 (Nat.le_of_ble_eq_true rfl) (hts _ q1473) (fun _ h => h) rfl dX7_tray_40 ?_
            refine lv_iload_n hx hb dX7_tray_43 rfl (lv_at hl 1 rfl) ?_
            refine lv_iload_n hx hb dX7_tray_44 rfl (lv_at hl 3 rfl) ?_
            refine zr_iast tray.toNatClampNeg (ws' := (mW G ad m_status m_top m_bottom m_taped m_size m_token m_from m_end m_value m_faultKind m_faultPlace m_faults m_seen m_depth m_counted m_lead m_round m_tried m_triedMany m_drawn m_ranSteps m_isTold m_marks m_at m_names (upd m_sort tray.toNatClampNeg so) (upd m_trayMany tray.toNatClampNeg many) m_trays m_tape m_text m_opened m_beside m_then m_ways m_further m_canBe m_loops m_ran m_told0)) hx hb hK hP hD hS 4 rfl rfl (Nat.le_of_ble_eq_true rfl) (z_nn (by assumption)) (by omega) rfl dX7_tray_45 (fun H locs hP hD hS => ?_)
            refine lv_iconst (v := 0) hx hb dX7_tray_46 (by decide) ?_
            have hl : lv_has ls 5 [(0, .ref (ad 0)), (1, .int tray), (2, .int so), (3, .int (nI many.toNatClampNeg))] := by rw [← (z_nn c_mn : many = nI many.toNatClampNeg)]; exact hl
            refine lv_istore (lv' := [(4, .int 0), (0, .ref (ad 0)), (1, .int tray), (2, .int so), (3, .int (nI many.toNatClampNeg))]) hx hb dX7_tray_47 hl (by decide) rfl (fun ls hl => ?_)
            have hlp_10 : ∀ (n k_10 : Nat) (s_10 : (Nat → Int64)), k_10 ≤ many.toNatClampNeg → many.toNatClampNeg < k_10 + n → zf (mf_tray_B49 tray many) m_trays k_10 = s_10 → ∀ (H : Heap) (locs : List Loc), va_P G.1 zcl (mW G ad m_status m_top m_bottom m_taped m_size m_token m_from m_end m_value m_faultKind m_faultPlace m_faults m_seen m_depth m_counted m_lead m_round m_tried m_triedMany m_drawn m_ranSteps m_isTold m_marks m_at m_names (upd m_sort tray.toNatClampNeg so) (upd m_trayMany tray.toNatClampNeg many) s_10 m_tape m_text m_opened m_beside m_then m_ways m_further m_canBe m_loops m_ran m_told0) H → va_D A (mW G ad m_status m_top m_bottom m_taped m_size m_token m_from m_end m_value m_faultKind m_faultPlace m_faults m_seen m_depth m_counted m_lead m_round m_tried m_triedMany m_drawn m_ranSteps m_isTold m_marks m_at m_names (upd m_sort tray.toNatClampNeg so) (upd m_trayMany tray.toNatClampNeg many) s_10 m_tape m_text m_opened m_beside m_then m_ways m_further m_canBe m_loops m_ran m_told0) → va_S A s.heap H locs → ∀ ls : Array Slot, lv_has ls 5 [(4, .int (nI k_10)), (0, .ref (ad 0)), (1, .int tray), (3, .int (nI many.toNatClampNeg))] → W p l e (zR 2 0 0) s m ([.ref (ad 0), .int tray, .int so, .int many] : List Value).toArray below meth c H locs 0 0 (MQ below (zQm G (True) (some (.int (zb ((mf_tray m_sort m_trayMany m_trays tray so many).1)))) (mW G ad ((mf_tray m_sort m_trayMany m_trays tray so many).2.1) m_top m_bottom m_taped m_size m_token m_from m_end m_value m_faultKind m_faultPlace m_faults m_seen m_depth m_counted m_lead m_round m_tried m_triedMany m_drawn m_ranSteps m_isTold m_marks m_at m_names ((mf_tray m_sort m_trayMany m_trays tray so many).2.2.1) ((mf_tray m_sort m_trayMany m_trays tray so many).2.2.2.1) ((mf_tray m_sort m_trayMany m_trays tray so many).2.2.2.2) m_tape m_text m_opened m_beside m_then m_ways m_further m_canBe m_loops m_ran m_told0) A) ([.ref (ad 0), .int tray, .int so, .int many] : List Value).toArray s 0 0 A) (F0 m 49 ls []) := by
              intro n
              induction n with
              | zero => intro k_10 s_10 h1 h2; exact absurd h2 (by omega)
              | succ n ih_10 =>
                intro k_10 s_10 hk_10 hn_10 hst_10 H locs hP hD hS ls hl
                refine lv_iload hx hb dX7_tray_49 (lv_at hl 0 rfl) ?_
                refine lv_iload_n hx hb dX7_tray_51 rfl (lv_at hl 3 rfl) ?_
                refine zr_ge k_10 many.toNatClampNeg (by omega) (by omega) (tgt := 74) hx hb dX7_tray_52 (by decide) (fun c_10 => ?_) (fun c_10 => ?_)
                · have ek_10 : k_10 = many.toNatClampNeg := Nat.le_antisymm hk_10 c_10
                  have hs_10 : mf_tray_L49 tray many m_trays = s_10 := by rw [ek_10] at hst_10; exact hst_10
                  have hl := lv_sub hl (l' := _) [1, 2, 3] rfl
                  refine lv_aload_n hx hb dX7_tray_74 rfl (lv_at hl 0 rfl) ?_
                  refine lv_iconst (v := 0) hx hb dX7_tray_75 (by decide) ?_
                  refine zr_muV (F := ()) (ff := fun _ => True) (rr := fun _ => some (.int (zb (decide ((0 : Int32) = 0))))) (w1 := fun _ => (mW G ad 0 m_top m_bottom m_taped m_size m_token m_from m_end m_value m_faultKind m_faultPlace m_faults m_seen m_depth m_counted m_lead m_round m_tried m_triedMany m_drawn m_ranSteps m_isTold m_marks m_at m_names (upd m_sort tray.toNatClampNeg so) (upd m_trayMany tray.toNatClampNeg many) s_10 m_tape m_text m_opened m_beside m_then m_ways m_further m_canBe m_loops m_ran m_told0)) ⟨hx, hb, hml, hown, hts⟩ (mt_mf_is l G ad m_status m_top m_bottom m_taped m_size m_token m_from m_end m_value m_faultKind m_faultPlace m_faults m_seen m_depth m_counted m_lead m_round m_tried m_triedMany m_drawn m_ranSteps m_isTold m_marks m_at m_names (upd m_sort tray.toNatClampNeg so) (upd m_trayMany tray.toNatClampNeg many) s_10 m_tape m_text m_opened m_beside m_then m_ways m_further m_canBe m_loops m_ran m_told0 0 H.size) (cwV 1 hts (lw_V q1604 q1606 qs60 q144 q1607) rfl rfl rfl hd_X7_is ⟨(Nat.le_of_ble_eq_true rfl), (Nat.le_of_ble_eq_true rfl)⟩) hP hD hS hA hK hE 0 7 rfl rfl rfl hl.1 rfl (Nat.le_of_ble_eq_true rfl) dX7_tray_76 ⟨Nat.le_refl _, Nat.le_refl _⟩ (fun _ _ _ H locs hP hD hS _ => ?_)
                  refine W.eq (g2 := F0 m 79 ls [.int (zb (decide ((0 : Int32) = 0)))]) rfl ?_
                  refine zr_val (v' := .int 1) (congrArg Value.int (by decide)) ?_
                  have e_ : mf_tray m_sort m_trayMany m_trays tray so many = (true, 0, upd m_sort tray.toNatClampNeg so, upd m_trayMany tray.toNatClampNeg many, s_10) := by rw [mf_tray, if_pos c_1, if_neg c_3, if_neg c_5, if_neg c_7, if_pos c_9, zlet_eq hs_10]
                  exact zr_mz hx hb hr hlocks hP hD hS dX7_tray_79 rfl (by rw [e_]; rfl) (by rw [e_]) trivial
                · have hlt_10 : k_10 < many.toNatClampNeg := Nat.lt_of_not_le c_10
                  refine lv_aload_n hx hb dX7_tray_55 rfl (lv_at hl 1 rfl) ?_
                  refine va_get (D := G.1) (ci := 7) (v := .ref (ad 5)) (C := RX7) (T := TX7) (N := 39) hx hb hts in_X7 hown hK.1 hP 0 rfl rfl 7 (Nat.le_of_ble_eq_true rfl) (hts _ q1474) (fun _ h => h) rfl dX7_tray_56 ?_
                  refine lv_bipush (v := 60) hx hb dX7_tray_59 (by decide) ?_
                  refine lv_iload_n hx hb dX7_tray_61 rfl (lv_at hl 2 rfl) ?_
                  refine zr_val (congrArg Value.int (z_nn hz0)) ?_
                  refine W.eq (g2 := F0 m 62 ls [.int (nI tray.toNatClampNeg), .int 60, .ref (ad 5)]) rfl ?_
                  refine zr_imulN 60 tray.toNatClampNeg hx hb dX7_tray_62 ?_
                  refine lv_iload hx hb dX7_tray_63 (lv_at hl 0 rfl) ?_
                  refine zr_iaddN (60 * tray.toNatClampNeg) k_10 hx hb dX7_tray_65 ?_
                  refine zr_val (v' := .int (nI (60 * tray.toNatClampNeg + k_10))) (by rfl) ?_
                  refine lv_lconst (v := 0) hx hb dX7_tray_66 rfl ?_
                  refine zr_last (60 * tray.toNatClampNeg + k_10) (ws' := (mW G ad m_status m_top m_bottom m_taped m_size m_token m_from m_end m_value m_faultKind m_faultPlace m_faults m_seen m_depth m_counted m_lead m_round m_tried m_triedMany m_drawn m_ranSteps m_isTold m_marks m_at m_names (upd m_sort tray.toNatClampNeg so) (upd m_trayMany tray.toNatClampNeg many) (vp_updL s_10 (60 * tray.toNatClampNeg + k_10) 0) m_tape m_text m_opened m_beside m_then m_ways m_further m_canBe m_loops m_ran m_told0)) hx hb hK hP hD hS 5 rfl rfl (Nat.le_of_ble_eq_true rfl) rfl (by omega) rfl dX7_tray_67 (fun H locs hP hD hS => ?_)
                  refine lv_iinc (v := nI (k_10 + 1)) (lv' := [(4, .int (nI (k_10 + 1))), (0, .ref (ad 0)), (1, .int tray), (3, .int (nI many.toNatClampNeg))]) hx hb dX7_tray_68 hl (k := 0) rfl (nI_add k_10 1) (by decide) rfl (fun ls hl => ?_)
                  refine lv_goto (tgt := 49) hx hb dX7_tray_71 (by decide) ?_
                  exact ih_10 (k_10 + 1) (vp_updL s_10 (60 * tray.toNatClampNeg + k_10) 0) hlt_10 (by omega) (zf_s hst_10 (by rw [mf_tray_B49])) H locs hP hD hS ls (lv_sub hl [0, 1, 2, 3] rfl)
            exact hlp_10 (many.toNatClampNeg + 1) 0 m_trays (Nat.zero_le _) (by omega) rfl H locs hP hD hS ls (lv_sub hl [0, 1, 2, 4] rfl)
          · refine lv_aload_n hx hb dX7_tray_26 rfl (lv_at hl 0 rfl) ?_
            refine lv_iconst (v := 1) hx hb dX7_tray_27 (by decide) ?_
            refine zr_muV (F := ()) (ff := fun _ => True) (rr := fun _ => some (.int (zb (decide ((1 : Int32) = 0))))) (w1 := fun _ => (mW G ad 1 m_top m_bottom m_taped m_size m_token m_from m_end m_value m_faultKind m_faultPlace m_faults m_seen m_depth m_counted m_lead m_round m_tried m_triedMany m_drawn m_ranSteps m_isTold m_marks m_at m_names m_sort m_trayMany m_trays m_tape m_text m_opened m_beside m_then m_ways m_further m_canBe m_loops m_ran m_told0)) ⟨hx, hb, hml, hown, hts⟩ (mt_mf_is l G ad m_status m_top m_bottom m_taped m_size m_token m_from m_end m_value m_faultKind m_faultPlace m_faults m_seen m_depth m_counted m_lead m_round m_tried m_triedMany m_drawn m_ranSteps m_isTold m_marks m_at m_names m_sort m_trayMany m_trays m_tape m_text m_opened m_beside m_then m_ways m_further m_canBe m_loops m_ran m_told0 1 H.size) (cwV 1 hts (lw_V q1604 q1606 qs60 q144 q1607) rfl rfl rfl hd_X7_is ⟨(Nat.le_of_ble_eq_true rfl), (Nat.le_of_ble_eq_true rfl)⟩) hP hD hS hA hK hE 0 7 rfl rfl rfl hl.1 rfl (Nat.le_of_ble_eq_true rfl) dX7_tray_28 ⟨Nat.le_refl _, Nat.le_refl _⟩ (fun _ _ _ H locs hP hD hS _ => ?_)
            refine W.eq (g2 := F0 m 31 ls [.int (zb (decide ((1 : Int32) = 0)))]) rfl ?_
            refine zr_val (v' := .int 0) (congrArg Value.int (by decide)) ?_
            have e_ : mf_tray m_sort m_trayMany m_trays tray so many = (false, 1, m_sort, m_trayMany, m_trays) := by rw [mf_tray, if_pos c_1, if_neg c_3, if_neg c_5, if_neg c_7, if_neg c_9]
            exact zr_mz hx hb hr hlocks hP hD hS dX7_tray_31 rfl (by rw [e_]; rfl) (by rw [e_]) trivial
def mf_write (m_sort : Nat → Int32) (m_trayMany : Nat → Int32) (m_trays : Nat → Int64) (tray : Int32) (place : Int32) (v : Int64) : Bool × Int32 × (Nat → Int64) :=
  (if (mf_wrongPlace m_trayMany tray place) = 0 then
    (decide ((mf_wrongPlace m_trayMany tray place) = 0), mf_wrongPlace m_trayMany tray place, vp_updL m_trays (60 * tray.toNatClampNeg + place.toNatClampNeg) (mf_cut v (m_sort tray.toNatClampNeg)))
  else
    (decide ((mf_wrongPlace m_trayMany tray place) = 0), mf_wrongPlace m_trayMany tray place, m_trays))
theorem hd_X7_write : yX7_write.cls = RX7 ∧ yX7_write.cls ≠ "java/lang/invoke/MethodHandle" ∧ yX7_write.cls ≠ "java/lang/invoke/VarHandle" ∧ (parseMethodDescriptor yX7_write.desc).map (fun d => d.parameters.length) = some 3 := by decide +kernel
set_option maxHeartbeats 4000000 in
set_option maxRecDepth 100000 in
theorem mt_mf_write (l : Launch) (G : zG) (ad : Nat → Nat) (m_status : Int32) (m_top : Int64) (m_bottom : Int64) (m_taped : Int32) (m_size : Int32) (m_token : Int32) (m_from : Int32) (m_end : Int32) (m_value : Int32) (m_faultKind : Int32) (m_faultPlace : Int32) (m_faults : Int32) (m_seen : Int32) (m_depth : Int32) (m_counted : Int32) (m_lead : Int32) (m_round : Int32) (m_tried : Int32) (m_triedMany : Int32) (m_drawn : Int32) (m_ranSteps : Int32) (m_isTold : Bool) (m_marks : Int32) (m_at : Nat → Int32) (m_names : Nat → Int64) (m_sort : Nat → Int32) (m_trayMany : Nat → Int32) (m_trays : Nat → Int64) (m_tape : Nat → Int32) (m_text : Nat → Int32) (m_opened : Nat → Int32) (m_beside : Nat → Int32) (m_then : Nat → Int32) (m_ways : Nat → Int64) (m_further : Nat → Int64) (m_canBe : Nat → Int32) (m_loops : Nat → Int32) (m_ran : Nat → Int32) (m_told0 : Nat → Int32) (tray : Int32) (place : Int32) (v : Int64) (hT : mTR m_trayMany) (sz : Nat) : Met l yX7_write (ws_ yX7_write cX7_write 6 (some .boolean)) (zR 3 0 0) (zPm G sz [.ref (ad 0), .int tray, .int place, .long v] (mW G ad m_status m_top m_bottom m_taped m_size m_token m_from m_end m_value m_faultKind m_faultPlace m_faults m_seen m_depth m_counted m_lead m_round m_tried m_triedMany m_drawn m_ranSteps m_isTold m_marks m_at m_names m_sort m_trayMany m_trays m_tape m_text m_opened m_beside m_then m_ways m_further m_canBe m_loops m_ran m_told0)) (zQm G (True) (some (.int (zb ((mf_write m_sort m_trayMany m_trays tray place v).1)))) (mW G ad ((mf_write m_sort m_trayMany m_trays tray place v).2.1) m_top m_bottom m_taped m_size m_token m_from m_end m_value m_faultKind m_faultPlace m_faults m_seen m_depth m_counted m_lead m_round m_tried m_triedMany m_drawn m_ranSteps m_isTold m_marks m_at m_names m_sort m_trayMany ((mf_write m_sort m_trayMany m_trays tray place v).2.2) m_tape m_text m_opened m_beside m_then m_ways m_further m_canBe m_loops m_ran m_told0) (va_A (mW G ad m_status m_top m_bottom m_taped m_size m_token m_from m_end m_value m_faultKind m_faultPlace m_faults m_seen m_depth m_counted m_lead m_round m_tried m_triedMany m_drawn m_ranSteps m_isTold m_marks m_at m_names m_sort m_trayMany m_trays m_tape m_text m_opened m_beside m_then m_ways m_further m_canBe m_loops m_ran m_told0) sz)) 0 0 (va_A (mW G ad m_status m_top m_bottom m_taped m_size m_token m_from m_end m_value m_faultKind m_faultPlace m_faults m_seen m_depth m_counted m_lead m_round m_tried m_triedMany m_drawn m_ranSteps m_isTold m_marks m_at m_names m_sort m_trayMany m_trays m_tape m_text m_opened m_beside m_then m_ways m_further m_canBe m_loops m_ran m_told0) sz) := by
  refine zr_entM (by decide) (Nat.le_of_ble_eq_true rfl) ?_
  intro p e s m below meth c ⟨hx, hb, hr, hml, hown, hts, hlocks, hnm⟩ ls hl hP hK A hE hA hD hS
  have hown : s.vm.findClass RX7 = some m.cls := hown
  have hl : lv_has ls 6 [(0, .ref (ad 0)), (1, .int tray), (2, .int place), (3, .long v)] := hl
  obtain ⟨H, hH⟩ : ∃ H, H = s.heap := ⟨_, rfl⟩
  obtain ⟨locs, hlo⟩ : ∃ L : List Loc, L = [] := ⟨_, rfl⟩
  rw [← hH] at hP
  have hS : va_S A s.heap H locs := by rw [hH, hlo]; exact va_S.rf
  have hgo : W p l e (zR 3 0 0) s m ([.ref (ad 0), .int tray, .int place, .long v] : List Value).toArray below meth c H locs 0 0 (MQ below (zQm G (True) (some (.int (zb ((mf_write m_sort m_trayMany m_trays tray place v).1)))) (mW G ad ((mf_write m_sort m_trayMany m_trays tray place v).2.1) m_top m_bottom m_taped m_size m_token m_from m_end m_value m_faultKind m_faultPlace m_faults m_seen m_depth m_counted m_lead m_round m_tried m_triedMany m_drawn m_ranSteps m_isTold m_marks m_at m_names m_sort m_trayMany ((mf_write m_sort m_trayMany m_trays tray place v).2.2) m_tape m_text m_opened m_beside m_then m_ways m_further m_canBe m_loops m_ran m_told0) A) ([.ref (ad 0), .int tray, .int place, .long v] : List Value).toArray s 0 0 A) (F0 m 0 ls []) := ?_
  · rw [hH, hlo] at hgo; exact hgo
  clear hH hlo
  refine lv_aload_n hx hb dX7_write_0 rfl (lv_at hl 0 rfl) ?_
  refine lv_iload_n hx hb dX7_write_1 rfl (lv_at hl 1 rfl) ?_
  refine lv_iload_n hx hb dX7_write_2 rfl (lv_at hl 2 rfl) ?_
  refine zr_obV ⟨hx, hb, hml, hown, hts⟩ (mt_mf_wrongPlace l G ad m_status m_top m_bottom m_taped m_size m_token m_from m_end m_value m_faultKind m_faultPlace m_faults m_seen m_depth m_counted m_lead m_round m_tried m_triedMany m_drawn m_ranSteps m_isTold m_marks m_at m_names m_sort m_trayMany m_trays m_tape m_text m_opened m_beside m_then m_ways m_further m_canBe m_loops m_ran m_told0 tray place) (cwV 2 hts (lw_V q1612 q1614 qs61 q144 q1615) rfl rfl rfl hd_X7_wrongPlace ⟨(Nat.le_of_ble_eq_true rfl), (Nat.le_of_ble_eq_true rfl)⟩) hP hK (zE_o hE hS) 0 7 rfl rfl rfl hl.1 rfl (Nat.le_of_ble_eq_true rfl) dX7_write_3 ⟨Nat.le_refl _, Nat.le_refl _⟩ ?_
  refine lv_istore (lv' := [(5, .int (mf_wrongPlace m_trayMany tray place)), (0, .ref (ad 0)), (1, .int tray), (2, .int place), (3, .long v)]) hx hb dX7_write_6 hl (by decide) rfl (fun ls hl => ?_)
  refine lv_iload hx hb dX7_write_8 (lv_at hl 0 rfl) ?_
  refine lv_if_ne (tgt := 34) hx hb dX7_write_10 (by decide) (fun c_1 => ?_) (fun c_1 => ?_)
  · refine lv_aload_n hx hb dX7_write_34 rfl (lv_at hl 1 rfl) ?_
    refine lv_iload hx hb dX7_write_35 (lv_at hl 0 rfl) ?_
    refine zr_muV (F := ()) (ff := fun _ => True) (rr := fun _ => some (.int (zb (decide ((mf_wrongPlace m_trayMany tray place) = 0))))) (w1 := fun _ => (mW G ad (mf_wrongPlace m_trayMany tray place) m_top m_bottom m_taped m_size m_token m_from m_end m_value m_faultKind m_faultPlace m_faults m_seen m_depth m_counted m_lead m_round m_tried m_triedMany m_drawn m_ranSteps m_isTold m_marks m_at m_names m_sort m_trayMany m_trays m_tape m_text m_opened m_beside m_then m_ways m_further m_canBe m_loops m_ran m_told0)) ⟨hx, hb, hml, hown, hts⟩ (mt_mf_is l G ad m_status m_top m_bottom m_taped m_size m_token m_from m_end m_value m_faultKind m_faultPlace m_faults m_seen m_depth m_counted m_lead m_round m_tried m_triedMany m_drawn m_ranSteps m_isTold m_marks m_at m_names m_sort m_trayMany m_trays m_tape m_text m_opened m_beside m_then m_ways m_further m_canBe m_loops m_ran m_told0 (mf_wrongPlace m_trayMany tray place) H.size) (cwV 1 hts (lw_V q1604 q1606 qs60 q144 q1607) rfl rfl rfl hd_X7_is ⟨(Nat.le_of_ble_eq_true rfl), (Nat.le_of_ble_eq_true rfl)⟩) hP hD hS hA hK hE 0 7 rfl rfl rfl hl.1 rfl (Nat.le_of_ble_eq_true rfl) dX7_write_37 ⟨Nat.le_refl _, Nat.le_refl _⟩ (fun _ _ _ H locs hP hD hS _ => ?_)
    refine W.eq (g2 := F0 m 40 ls [.int (zb (decide ((mf_wrongPlace m_trayMany tray place) = 0)))]) rfl ?_
    have e_ : mf_write m_sort m_trayMany m_trays tray place v = (decide ((mf_wrongPlace m_trayMany tray place) = 0), mf_wrongPlace m_trayMany tray place, m_trays) := by rw [mf_write, if_neg c_1]
    exact zr_mz hx hb hr hlocks hP hD hS dX7_write_40 zb_nar (by rw [e_]) (by rw [e_]) trivial
  · obtain ⟨⟨hz0, hz1⟩, hw0, hw1⟩ := wrongPlace_0 hT (by rw [c_1]; decide)
    refine lv_aload_n hx hb dX7_write_13 rfl (lv_at hl 1 rfl) ?_
    refine va_get (D := G.1) (ci := 7) (v := .ref (ad 5)) (C := RX7) (T := TX7) (N := 39) hx hb hts in_X7 hown hK.1 hP 0 rfl rfl 7 (Nat.le_of_ble_eq_true rfl) (hts _ q1474) (fun _ h => h) rfl dX7_write_14 ?_
    refine lv_bipush (v := 60) hx hb dX7_write_17 (by decide) ?_
    refine lv_iload_n hx hb dX7_write_19 rfl (lv_at hl 2 rfl) ?_
    refine zr_val (congrArg Value.int (z_nn hz0)) ?_
    refine W.eq (g2 := F0 m 20 ls [.int (nI tray.toNatClampNeg), .int 60, .ref (ad 5)]) rfl ?_
    refine zr_imulN 60 tray.toNatClampNeg hx hb dX7_write_20 ?_
    refine lv_iload_n hx hb dX7_write_21 rfl (lv_at hl 3 rfl) ?_
    refine zr_val (congrArg Value.int (z_nn hw0)) ?_
    refine W.eq (g2 := F0 m 22 ls [.int (nI place.toNatClampNeg), .int (nI (60 * tray.toNatClampNeg)), .ref (ad 5)]) rfl ?_
    refine zr_iaddN (60 * tray.toNatClampNeg) place.toNatClampNeg hx hb dX7_write_22 ?_
    refine zr_val (v' := .int (nI (60 * tray.toNatClampNeg + place.toNatClampNeg))) (by rfl) ?_
    refine lv_lload_n hx hb dX7_write_23 rfl (lv_at hl 4 rfl) ?_
    refine lv_aload_n hx hb dX7_write_24 rfl (lv_at hl 1 rfl) ?_
    refine va_get (D := G.1) (ci := 7) (v := .ref (ad 3)) (C := RX7) (T := TX7) (N := 39) hx hb hts in_X7 hown hK.1 hP 0 rfl rfl 5 (Nat.le_of_ble_eq_true rfl) (hts _ q1472) (fun _ h => h) rfl dX7_write_25 ?_
    refine lv_iload_n hx hb dX7_write_28 rfl (lv_at hl 2 rfl) ?_
    refine zr_iald tray.toNatClampNeg (v := m_sort tray.toNatClampNeg) hx hb hK hP 3 rfl rfl (Nat.le_of_ble_eq_true rfl) (z_nn (by assumption)) (by omega) rfl dX7_write_29 ?_
    refine zr_puS ⟨hx, hb, hml, hown, hts⟩ (mt_mf_cut l v (m_sort tray.toNatClampNeg)) (va_cwS 2 hts (lw_S q1616 q1617 q144 q1618) rfl rfl rfl hd_X7_cut.2 ⟨(Nat.le_of_ble_eq_true rfl), (Nat.le_of_ble_eq_true rfl)⟩) rfl hl.1 rfl (Nat.le_of_ble_eq_true rfl) dX7_write_30 ⟨Nat.le_refl _, Nat.le_refl _⟩ ?_
    refine zr_last (60 * tray.toNatClampNeg + place.toNatClampNeg) (ws' := (mW G ad m_status m_top m_bottom m_taped m_size m_token m_from m_end m_value m_faultKind m_faultPlace m_faults m_seen m_depth m_counted m_lead m_round m_tried m_triedMany m_drawn m_ranSteps m_isTold m_marks m_at m_names m_sort m_trayMany (vp_updL m_trays (60 * tray.toNatClampNeg + place.toNatClampNeg) (mf_cut v (m_sort tray.toNatClampNeg))) m_tape m_text m_opened m_beside m_then m_ways m_further m_canBe m_loops m_ran m_told0)) hx hb hK hP hD hS 5 rfl rfl (Nat.le_of_ble_eq_true rfl) rfl (by omega) rfl dX7_write_33 (fun H locs hP hD hS => ?_)
    refine lv_aload_n hx hb dX7_write_34 rfl (lv_at hl 1 rfl) ?_
    refine lv_iload hx hb dX7_write_35 (lv_at hl 0 rfl) ?_
    refine zr_muV (F := ()) (ff := fun _ => True) (rr := fun _ => some (.int (zb (decide ((mf_wrongPlace m_trayMany tray place) = 0))))) (w1 := fun _ => (mW G ad (mf_wrongPlace m_trayMany tray place) m_top m_bottom m_taped m_size m_token m_from m_end m_value m_faultKind m_faultPlace m_faults m_seen m_depth m_counted m_lead m_round m_tried m_triedMany m_drawn m_ranSteps m_isTold m_marks m_at m_names m_sort m_trayMany (vp_updL m_trays (60 * tray.toNatClampNeg + place.toNatClampNeg) (mf_cut v (m_sort tray.toNatClampNeg))) m_tape m_text m_opened m_beside m_then m_ways m_further m_canBe m_loops m_ran m_told0)) ⟨hx, hb, hml, hown, hts⟩ (mt_mf_is l G ad m_status m_top m_bottom m_taped m_size m_token m_from m_end m_value m_faultKind m_faultPlace m_faults m_seen m_depth m_counted m_lead m_round m_tried m_triedMany m_drawn m_ranSteps m_isTold m_marks m_at m_names m_sort m_trayMany (vp_updL m_trays (60 * tray.toNatClampNeg + place.toNatClampNeg) (mf_cut v (m_sort tray.toNatClampNeg))) m_tape m_text m_opened m_beside m_then m_ways m_further m_canBe m_loops m_ran m_told0 (mf_wrongPlace m_trayMany tray place) H.size) (cwV 1 hts (lw_V q1604 q1606 qs60 q144 q1607) rfl rfl rfl hd_X7_is ⟨(Nat.le_of_ble_eq_true rfl), (Nat.le_of_ble_eq_true rfl)⟩) hP hD hS hA hK hE 0 7 rfl rfl rfl hl.1 rfl (Nat.le_of_ble_eq_true rfl) dX7_write_37 ⟨Nat.le_refl _, Nat.le_refl _⟩ (fun _ _ _ H locs hP hD hS _ => ?_)
    refine W.eq (g2 := F0 m 40 ls [.int (zb (decide ((mf_wrongPlace m_trayMany tray place) = 0)))]) rfl ?_
    have e_ : mf_write m_sort m_trayMany m_trays tray place v = (decide ((mf_wrongPlace m_trayMany tray place) = 0), mf_wrongPlace m_trayMany tray place, vp_updL m_trays (60 * tray.toNatClampNeg + place.toNatClampNeg) (mf_cut v (m_sort tray.toNatClampNeg))) := by rw [mf_write, if_pos c_1]
    exact zr_mz hx hb hr hlocks hP hD hS dX7_write_40 zb_nar (by rw [e_]) (by rw [e_]) trivial
def mf_read (m_trayMany : Nat → Int32) (m_trays : Nat → Int64) (tray : Int32) (place : Int32) : Int64 × Int32 :=
  (if (mf_wrongPlace m_trayMany tray place) ≤ 0 then
    (m_trays (60 * tray.toNatClampNeg + place.toNatClampNeg), mf_wrongPlace m_trayMany tray place)
  else
    ((-1), mf_wrongPlace m_trayMany tray place))
theorem hd_X7_read : yX7_read.cls = RX7 ∧ yX7_read.cls ≠ "java/lang/invoke/MethodHandle" ∧ yX7_read.cls ≠ "java/lang/invoke/VarHandle" ∧ (parseMethodDescriptor yX7_read.desc).map (fun d => d.parameters.length) = some 2 := by decide +kernel
set_option maxHeartbeats 4000000 in
set_option maxRecDepth 100000 in
theorem mt_mf_read (l : Launch) (G : zG) (ad : Nat → Nat) (m_status : Int32) (m_top : Int64) (m_bottom : Int64) (m_taped : Int32) (m_size : Int32) (m_token : Int32) (m_from : Int32) (m_end : Int32) (m_value : Int32) (m_faultKind : Int32) (m_faultPlace : Int32) (m_faults : Int32) (m_seen : Int32) (m_depth : Int32) (m_counted : Int32) (m_lead : Int32) (m_round : Int32) (m_tried : Int32) (m_triedMany : Int32) (m_drawn : Int32) (m_ranSteps : Int32) (m_isTold : Bool) (m_marks : Int32) (m_at : Nat → Int32) (m_names : Nat → Int64) (m_sort : Nat → Int32) (m_trayMany : Nat → Int32) (m_trays : Nat → Int64) (m_tape : Nat → Int32) (m_text : Nat → Int32) (m_opened : Nat → Int32) (m_beside : Nat → Int32) (m_then : Nat → Int32) (m_ways : Nat → Int64) (m_further : Nat → Int64) (m_canBe : Nat → Int32) (m_loops : Nat → Int32) (m_ran : Nat → Int32) (m_told0 : Nat → Int32) (tray : Int32) (place : Int32) (hT : mTR m_trayMany) (sz : Nat) : Met l yX7_read (ws_ yX7_read cX7_read 3 (some .long)) (zR 3 0 0) (zPm G sz [.ref (ad 0), .int tray, .int place] (mW G ad m_status m_top m_bottom m_taped m_size m_token m_from m_end m_value m_faultKind m_faultPlace m_faults m_seen m_depth m_counted m_lead m_round m_tried m_triedMany m_drawn m_ranSteps m_isTold m_marks m_at m_names m_sort m_trayMany m_trays m_tape m_text m_opened m_beside m_then m_ways m_further m_canBe m_loops m_ran m_told0)) (zQm G (True) (some (.long ((mf_read m_trayMany m_trays tray place).1))) (mW G ad ((mf_read m_trayMany m_trays tray place).2) m_top m_bottom m_taped m_size m_token m_from m_end m_value m_faultKind m_faultPlace m_faults m_seen m_depth m_counted m_lead m_round m_tried m_triedMany m_drawn m_ranSteps m_isTold m_marks m_at m_names m_sort m_trayMany m_trays m_tape m_text m_opened m_beside m_then m_ways m_further m_canBe m_loops m_ran m_told0) (va_A (mW G ad m_status m_top m_bottom m_taped m_size m_token m_from m_end m_value m_faultKind m_faultPlace m_faults m_seen m_depth m_counted m_lead m_round m_tried m_triedMany m_drawn m_ranSteps m_isTold m_marks m_at m_names m_sort m_trayMany m_trays m_tape m_text m_opened m_beside m_then m_ways m_further m_canBe m_loops m_ran m_told0) sz)) 0 0 (va_A (mW G ad m_status m_top m_bottom m_taped m_size m_token m_from m_end m_value m_faultKind m_faultPlace m_faults m_seen m_depth m_counted m_lead m_round m_tried m_triedMany m_drawn m_ranSteps m_isTold m_marks m_at m_names m_sort m_trayMany m_trays m_tape m_text m_opened m_beside m_then m_ways m_further m_canBe m_loops m_ran m_told0) sz) := by
  refine zr_entM (by decide) (Nat.le_of_ble_eq_true rfl) ?_
  intro p e s m below meth c ⟨hx, hb, hr, hml, hown, hts, hlocks, hnm⟩ ls hl hP hK A hE hA hD hS
  have hown : s.vm.findClass RX7 = some m.cls := hown
  have hl : lv_has ls 3 [(0, .ref (ad 0)), (1, .int tray), (2, .int place)] := hl
  obtain ⟨H, hH⟩ : ∃ H, H = s.heap := ⟨_, rfl⟩
  obtain ⟨locs, hlo⟩ : ∃ L : List Loc, L = [] := ⟨_, rfl⟩
  rw [← hH] at hP
  have hS : va_S A s.heap H locs := by rw [hH, hlo]; exact va_S.rf
  have hgo : W p l e (zR 3 0 0) s m ([.ref (ad 0), .int tray, .int place] : List Value).toArray below meth c H locs 0 0 (MQ below (zQm G (True) (some (.long ((mf_read m_trayMany m_trays tray place).1))) (mW G ad ((mf_read m_trayMany m_trays tray place).2) m_top m_bottom m_taped m_size m_token m_from m_end m_value m_faultKind m_faultPlace m_faults m_seen m_depth m_counted m_lead m_round m_tried m_triedMany m_drawn m_ranSteps m_isTold m_marks m_at m_names m_sort m_trayMany m_trays m_tape m_text m_opened m_beside m_then m_ways m_further m_canBe m_loops m_ran m_told0) A) ([.ref (ad 0), .int tray, .int place] : List Value).toArray s 0 0 A) (F0 m 0 ls []) := ?_
  · rw [hH, hlo] at hgo; exact hgo
  clear hH hlo
  refine lv_aload_n hx hb dX7_read_0 rfl (lv_at hl 0 rfl) ?_
  refine lv_aload_n hx hb dX7_read_1 rfl (lv_at hl 0 rfl) ?_
  refine lv_iload_n hx hb dX7_read_2 rfl (lv_at hl 1 rfl) ?_
  refine lv_iload_n hx hb dX7_read_3 rfl (lv_at hl 2 rfl) ?_
  refine zr_obV ⟨hx, hb, hml, hown, hts⟩ (mt_mf_wrongPlace l G ad m_status m_top m_bottom m_taped m_size m_token m_from m_end m_value m_faultKind m_faultPlace m_faults m_seen m_depth m_counted m_lead m_round m_tried m_triedMany m_drawn m_ranSteps m_isTold m_marks m_at m_names m_sort m_trayMany m_trays m_tape m_text m_opened m_beside m_then m_ways m_further m_canBe m_loops m_ran m_told0 tray place) (cwV 2 hts (lw_V q1612 q1614 qs61 q144 q1615) rfl rfl rfl hd_X7_wrongPlace ⟨(Nat.le_of_ble_eq_true rfl), (Nat.le_of_ble_eq_true rfl)⟩) hP hK (zE_o hE hS) 0 7 rfl rfl rfl hl.1 rfl (Nat.le_of_ble_eq_true rfl) dX7_read_4 ⟨Nat.le_refl _, Nat.le_refl _⟩ ?_
  refine va_put (D := G.1) (ci := 7) (v := .int (mf_wrongPlace m_trayMany tray place)) (ty := .int) (C := RX7) (T := TX7) (N := 39) hx hb hts in_X7 tyX7 tyX7_ok nmX7 hown hK.1 hP hD hS 0 rfl rfl 2 (Nat.le_of_ble_eq_true rfl) (hts _ q1469) (fun _ h => h) rfl (tyX7_ok 2 (Nat.le_of_ble_eq_true rfl)) rfl rfl (Nat.le_of_ble_eq_true rfl) dX7_read_7 (fun H locs hP hD hS => ?_)
  have hP : va_P G.1 zcl (mW G ad (mf_wrongPlace m_trayMany tray place) m_top m_bottom m_taped m_size m_token m_from m_end m_value m_faultKind m_faultPlace m_faults m_seen m_depth m_counted m_lead m_round m_tried m_triedMany m_drawn m_ranSteps m_isTold m_marks m_at m_names m_sort m_trayMany m_trays m_tape m_text m_opened m_beside m_then m_ways m_further m_canBe m_loops m_ran m_told0) H := hP
  have hD : va_D A (mW G ad (mf_wrongPlace m_trayMany tray place) m_top m_bottom m_taped m_size m_token m_from m_end m_value m_faultKind m_faultPlace m_faults m_seen m_depth m_counted m_lead m_round m_tried m_triedMany m_drawn m_ranSteps m_isTold m_marks m_at m_names m_sort m_trayMany m_trays m_tape m_text m_opened m_beside m_then m_ways m_further m_canBe m_loops m_ran m_told0) := hD
  refine lv_aload_n hx hb dX7_read_10 rfl (lv_at hl 0 rfl) ?_
  refine va_get (D := G.1) (ci := 7) (v := .int (mf_wrongPlace m_trayMany tray place)) (C := RX7) (T := TX7) (N := 39) hx hb hts in_X7 hown hK.1 hP 0 rfl rfl 2 (Nat.le_of_ble_eq_true rfl) (hts _ q1469) (fun _ h => h) rfl dX7_read_11 ?_
  refine lv_if_le (tgt := 23) hx hb dX7_read_14 (by decide) (fun c_1 => ?_) (fun c_1 => ?_)
  · obtain ⟨⟨hz0, hz1⟩, hw0, hw1⟩ := wrongPlace_0 hT c_1
    refine lv_aload_n hx hb dX7_read_23 rfl (lv_at hl 0 rfl) ?_
    refine va_get (D := G.1) (ci := 7) (v := .ref (ad 5)) (C := RX7) (T := TX7) (N := 39) hx hb hts in_X7 hown hK.1 hP 0 rfl rfl 7 (Nat.le_of_ble_eq_true rfl) (hts _ q1474) (fun _ h => h) rfl dX7_read_24 ?_
    refine lv_bipush (v := 60) hx hb dX7_read_27 (by decide) ?_
    refine lv_iload_n hx hb dX7_read_29 rfl (lv_at hl 1 rfl) ?_
    refine zr_val (congrArg Value.int (z_nn hz0)) ?_
    refine W.eq (g2 := F0 m 30 ls [.int (nI tray.toNatClampNeg), .int 60, .ref (ad 5)]) rfl ?_
    refine zr_imulN 60 tray.toNatClampNeg hx hb dX7_read_30 ?_
    refine lv_iload_n hx hb dX7_read_31 rfl (lv_at hl 2 rfl) ?_
    refine zr_val (congrArg Value.int (z_nn hw0)) ?_
    refine W.eq (g2 := F0 m 32 ls [.int (nI place.toNatClampNeg), .int (nI (60 * tray.toNatClampNeg)), .ref (ad 5)]) rfl ?_
    refine zr_iaddN (60 * tray.toNatClampNeg) place.toNatClampNeg hx hb dX7_read_32 ?_
    refine zr_val (v' := .int (nI (60 * tray.toNatClampNeg + place.toNatClampNeg))) (by rfl) ?_
    refine zr_lald (60 * tray.toNatClampNeg + place.toNatClampNeg) (v := m_trays (60 * tray.toNatClampNeg + place.toNatClampNeg)) hx hb hK hP 5 rfl rfl (Nat.le_of_ble_eq_true rfl) rfl (by omega) rfl dX7_read_33 ?_
    have e_ : mf_read m_trayMany m_trays tray place = (m_trays (60 * tray.toNatClampNeg + place.toNatClampNeg), mf_wrongPlace m_trayMany tray place) := by rw [mf_read, if_pos c_1]
    exact zr_ml hx hb hr hlocks hP hD hS dX7_read_34 (by rw [e_])  (by rw [e_]) trivial
  · refine lv_ldc2 (v := (-1)) hx hb hown (hts _ q1623) dX7_read_17 ?_
    refine lv_goto (tgt := 34) hx hb dX7_read_20 (by decide) ?_
    have e_ : mf_read m_trayMany m_trays tray place = ((-1), mf_wrongPlace m_trayMany tray place) := by rw [mf_read, if_neg c_1]
    exact zr_ml hx hb hr hlocks hP hD hS dX7_read_34 (by rw [e_])  (by rw [e_]) trivial
def mf_pour_B118 (fr : Int32) (place : Int32) (to_ : Int32) (at_ : Int32) (many : Int32) (k_17 : Nat) (s_17 : (Nat → Int64)) : (Nat → Int64) :=
  (if at_.toNatClampNeg ≤ place.toNatClampNeg then
    vp_updL s_17 (60 * to_.toNatClampNeg + at_.toNatClampNeg + k_17) (s_17 (60 * fr.toNatClampNeg + place.toNatClampNeg + k_17))
  else
    vp_updL s_17 (60 * to_.toNatClampNeg + at_.toNatClampNeg + ((many.toNatClampNeg - 1) - k_17)) (s_17 (60 * fr.toNatClampNeg + place.toNatClampNeg + ((many.toNatClampNeg - 1) - k_17))))
def mf_pour_L118 (fr : Int32) (place : Int32) (to_ : Int32) (at_ : Int32) (many : Int32) (s_17 : (Nat → Int64)) : (Nat → Int64) := zf (mf_pour_B118 fr place to_ at_ many) s_17 many.toNatClampNeg
def mf_pour (m_sort : Nat → Int32) (m_trayMany : Nat → Int32) (m_trays : Nat → Int64) (fr : Int32) (place : Int32) (to_ : Int32) (at_ : Int32) (many : Int32) : Bool × Int32 × (Nat → Int64) :=
  (if (mf_isTray fr) = true then
    (if (mf_isTray to_) = true then
      (if place < 0 then
        (false, 1, m_trays)
      else
        (if at_ < 0 then
          (false, 1, m_trays)
        else
          (if 0 ≤ many then
            (if (m_trayMany fr.toNatClampNeg) = (-1) then
              (false, 2, m_trays)
            else
              (if (m_trayMany to_.toNatClampNeg) = (-1) then
                (false, 2, m_trays)
              else
                (if (m_sort fr.toNatClampNeg) = (m_sort to_.toNatClampNeg) then
                  (if ((nI ((m_trayMany fr.toNatClampNeg).toNatClampNeg)) - place) < many then
                    (false, 3, m_trays)
                  else
                    (if many ≤ ((nI ((m_trayMany to_.toNatClampNeg).toNatClampNeg)) - at_) then
                      zlet (mf_pour_L118 fr place to_ at_ many m_trays) (fun s_17 =>
                      (true, 0, s_17))
                    else
                      (false, 3, m_trays)))
                else
                  (false, 8, m_trays))))
          else
            (false, 1, m_trays))))
    else
      (false, 1, m_trays))
  else
    (false, 1, m_trays))
theorem hd_X7_pour : yX7_pour.cls = RX7 ∧ yX7_pour.cls ≠ "java/lang/invoke/MethodHandle" ∧ yX7_pour.cls ≠ "java/lang/invoke/VarHandle" ∧ (parseMethodDescriptor yX7_pour.desc).map (fun d => d.parameters.length) = some 5 := by decide +kernel
set_option maxHeartbeats 4000000 in
set_option maxRecDepth 100000 in
theorem mt_mf_pour (l : Launch) (G : zG) (ad : Nat → Nat) (m_status : Int32) (m_top : Int64) (m_bottom : Int64) (m_taped : Int32) (m_size : Int32) (m_token : Int32) (m_from : Int32) (m_end : Int32) (m_value : Int32) (m_faultKind : Int32) (m_faultPlace : Int32) (m_faults : Int32) (m_seen : Int32) (m_depth : Int32) (m_counted : Int32) (m_lead : Int32) (m_round : Int32) (m_tried : Int32) (m_triedMany : Int32) (m_drawn : Int32) (m_ranSteps : Int32) (m_isTold : Bool) (m_marks : Int32) (m_at : Nat → Int32) (m_names : Nat → Int64) (m_sort : Nat → Int32) (m_trayMany : Nat → Int32) (m_trays : Nat → Int64) (m_tape : Nat → Int32) (m_text : Nat → Int32) (m_opened : Nat → Int32) (m_beside : Nat → Int32) (m_then : Nat → Int32) (m_ways : Nat → Int64) (m_further : Nat → Int64) (m_canBe : Nat → Int32) (m_loops : Nat → Int32) (m_ran : Nat → Int32) (m_told0 : Nat → Int32) (fr : Int32) (place : Int32) (to_ : Int32) (at_ : Int32) (many : Int32) (hT : mTR m_trayMany) (sz : Nat) : Met l yX7_pour (ws_ yX7_pour cX7_pour 8 (some .boolean)) (zR 2 0 0) (zPm G sz [.ref (ad 0), .int fr, .int place, .int to_, .int at_, .int many] (mW G ad m_status m_top m_bottom m_taped m_size m_token m_from m_end m_value m_faultKind m_faultPlace m_faults m_seen m_depth m_counted m_lead m_round m_tried m_triedMany m_drawn m_ranSteps m_isTold m_marks m_at m_names m_sort m_trayMany m_trays m_tape m_text m_opened m_beside m_then m_ways m_further m_canBe m_loops m_ran m_told0)) (zQm G (True) (some (.int (zb ((mf_pour m_sort m_trayMany m_trays fr place to_ at_ many).1)))) (mW G ad ((mf_pour m_sort m_trayMany m_trays fr place to_ at_ many).2.1) m_top m_bottom m_taped m_size m_token m_from m_end m_value m_faultKind m_faultPlace m_faults m_seen m_depth m_counted m_lead m_round m_tried m_triedMany m_drawn m_ranSteps m_isTold m_marks m_at m_names m_sort m_trayMany ((mf_pour m_sort m_trayMany m_trays fr place to_ at_ many).2.2) m_tape m_text m_opened m_beside m_then m_ways m_further m_canBe m_loops m_ran m_told0) (va_A (mW G ad m_status m_top m_bottom m_taped m_size m_token m_from m_end m_value m_faultKind m_faultPlace m_faults m_seen m_depth m_counted m_lead m_round m_tried m_triedMany m_drawn m_ranSteps m_isTold m_marks m_at m_names m_sort m_trayMany m_trays m_tape m_text m_opened m_beside m_then m_ways m_further m_canBe m_loops m_ran m_told0) sz)) 0 0 (va_A (mW G ad m_status m_top m_bottom m_taped m_size m_token m_from m_end m_value m_faultKind m_faultPlace m_faults m_seen m_depth m_counted m_lead m_round m_tried m_triedMany m_drawn m_ranSteps m_isTold m_marks m_at m_names m_sort m_trayMany m_trays m_tape m_text m_opened m_beside m_then m_ways m_further m_canBe m_loops m_ran m_told0) sz) := by
  refine zr_entM (by decide) (Nat.le_of_ble_eq_true rfl) ?_
  intro p e s m below meth c ⟨hx, hb, hr, hml, hown, hts, hlocks, hnm⟩ ls hl hP hK A hE hA hD hS
  have hown : s.vm.findClass RX7 = some m.cls := hown
  have hl : lv_has ls 8 [(0, .ref (ad 0)), (1, .int fr), (2, .int place), (3, .int to_), (4, .int at_), (5, .int many)] := hl
  obtain ⟨H, hH⟩ : ∃ H, H = s.heap := ⟨_, rfl⟩
  obtain ⟨locs, hlo⟩ : ∃ L : List Loc, L = [] := ⟨_, rfl⟩
  rw [← hH] at hP
  have hS : va_S A s.heap H locs := by rw [hH, hlo]; exact va_S.rf
  have hgo : W p l e (zR 2 0 0) s m ([.ref (ad 0), .int fr, .int place, .int to_, .int at_, .int many] : List Value).toArray below meth c H locs 0 0 (MQ below (zQm G (True) (some (.int (zb ((mf_pour m_sort m_trayMany m_trays fr place to_ at_ many).1)))) (mW G ad ((mf_pour m_sort m_trayMany m_trays fr place to_ at_ many).2.1) m_top m_bottom m_taped m_size m_token m_from m_end m_value m_faultKind m_faultPlace m_faults m_seen m_depth m_counted m_lead m_round m_tried m_triedMany m_drawn m_ranSteps m_isTold m_marks m_at m_names m_sort m_trayMany ((mf_pour m_sort m_trayMany m_trays fr place to_ at_ many).2.2) m_tape m_text m_opened m_beside m_then m_ways m_further m_canBe m_loops m_ran m_told0) A) ([.ref (ad 0), .int fr, .int place, .int to_, .int at_, .int many] : List Value).toArray s 0 0 A) (F0 m 0 ls []) := ?_
  · rw [hH, hlo] at hgo; exact hgo
  clear hH hlo
  refine lv_iload_n hx hb dX7_pour_0 rfl (lv_at hl 1 rfl) ?_
  refine zr_puS ⟨hx, hb, hml, hown, hts⟩ (mt_mf_isTray l fr) (va_cwS 1 hts (lw_S q1601 q1602 q144 q1603) rfl rfl rfl hd_X7_isTray.2 ⟨(Nat.le_of_ble_eq_true rfl), (Nat.le_of_ble_eq_true rfl)⟩) rfl hl.1 rfl (Nat.le_of_ble_eq_true rfl) dX7_pour_1 ⟨Nat.le_refl _, Nat.le_refl _⟩ ?_
  refine zr_eqB (mf_isTray fr) (tgt := 28) hx hb dX7_pour_4 (by decide) (fun c_1 => ?_) (fun c_1 => ?_)
  · refine lv_aload_n hx hb dX7_pour_28 rfl (lv_at hl 0 rfl) ?_
    refine lv_iconst (v := 1) hx hb dX7_pour_29 (by decide) ?_
    refine zr_muV (F := ()) (ff := fun _ => True) (rr := fun _ => some (.int (zb (decide ((1 : Int32) = 0))))) (w1 := fun _ => (mW G ad 1 m_top m_bottom m_taped m_size m_token m_from m_end m_value m_faultKind m_faultPlace m_faults m_seen m_depth m_counted m_lead m_round m_tried m_triedMany m_drawn m_ranSteps m_isTold m_marks m_at m_names m_sort m_trayMany m_trays m_tape m_text m_opened m_beside m_then m_ways m_further m_canBe m_loops m_ran m_told0)) ⟨hx, hb, hml, hown, hts⟩ (mt_mf_is l G ad m_status m_top m_bottom m_taped m_size m_token m_from m_end m_value m_faultKind m_faultPlace m_faults m_seen m_depth m_counted m_lead m_round m_tried m_triedMany m_drawn m_ranSteps m_isTold m_marks m_at m_names m_sort m_trayMany m_trays m_tape m_text m_opened m_beside m_then m_ways m_further m_canBe m_loops m_ran m_told0 1 H.size) (cwV 1 hts (lw_V q1604 q1606 qs60 q144 q1607) rfl rfl rfl hd_X7_is ⟨(Nat.le_of_ble_eq_true rfl), (Nat.le_of_ble_eq_true rfl)⟩) hP hD hS hA hK hE 0 7 rfl rfl rfl hl.1 rfl (Nat.le_of_ble_eq_true rfl) dX7_pour_30 ⟨Nat.le_refl _, Nat.le_refl _⟩ (fun _ _ _ H locs hP hD hS _ => ?_)
    refine W.eq (g2 := F0 m 33 ls [.int (zb (decide ((1 : Int32) = 0)))]) rfl ?_
    refine zr_val (v' := .int 0) (congrArg Value.int (by decide)) ?_
    have e_ : mf_pour m_sort m_trayMany m_trays fr place to_ at_ many = (false, 1, m_trays) := by rw [mf_pour, if_neg c_1]
    exact zr_mz hx hb hr hlocks hP hD hS dX7_pour_33 rfl (by rw [e_]; rfl) (by rw [e_]) trivial
  · obtain ⟨hf0, hf1⟩ := isTray_t c_1
    refine lv_iload_n hx hb dX7_pour_7 rfl (lv_at hl 3 rfl) ?_
    refine zr_puS ⟨hx, hb, hml, hown, hts⟩ (mt_mf_isTray l to_) (va_cwS 1 hts (lw_S q1601 q1602 q144 q1603) rfl rfl rfl hd_X7_isTray.2 ⟨(Nat.le_of_ble_eq_true rfl), (Nat.le_of_ble_eq_true rfl)⟩) rfl hl.1 rfl (Nat.le_of_ble_eq_true rfl) dX7_pour_8 ⟨Nat.le_refl _, Nat.le_refl _⟩ ?_
    refine zr_eqB (mf_isTray to_) (tgt := 28) hx hb dX7_pour_11 (by decide) (fun c_3 => ?_) (fun c_3 => ?_)
    · refine lv_aload_n hx hb dX7_pour_28 rfl (lv_at hl 0 rfl) ?_
      refine lv_iconst (v := 1) hx hb dX7_pour_29 (by decide) ?_
      refine zr_muV (F := ()) (ff := fun _ => True) (rr := fun _ => some (.int (zb (decide ((1 : Int32) = 0))))) (w1 := fun _ => (mW G ad 1 m_top m_bottom m_taped m_size m_token m_from m_end m_value m_faultKind m_faultPlace m_faults m_seen m_depth m_counted m_lead m_round m_tried m_triedMany m_drawn m_ranSteps m_isTold m_marks m_at m_names m_sort m_trayMany m_trays m_tape m_text m_opened m_beside m_then m_ways m_further m_canBe m_loops m_ran m_told0)) ⟨hx, hb, hml, hown, hts⟩ (mt_mf_is l G ad m_status m_top m_bottom m_taped m_size m_token m_from m_end m_value m_faultKind m_faultPlace m_faults m_seen m_depth m_counted m_lead m_round m_tried m_triedMany m_drawn m_ranSteps m_isTold m_marks m_at m_names m_sort m_trayMany m_trays m_tape m_text m_opened m_beside m_then m_ways m_further m_canBe m_loops m_ran m_told0 1 H.size) (cwV 1 hts (lw_V q1604 q1606 qs60 q144 q1607) rfl rfl rfl hd_X7_is ⟨(Nat.le_of_ble_eq_true rfl), (Nat.le_of_ble_eq_true rfl)⟩) hP hD hS hA hK hE 0 7 rfl rfl rfl hl.1 rfl (Nat.le_of_ble_eq_true rfl) dX7_pour_30 ⟨Nat.le_refl _, Nat.le_refl _⟩ (fun _ _ _ H locs hP hD hS _ => ?_)
      refine W.eq (g2 := F0 m 33 ls [.int (zb (decide ((1 : Int32) = 0)))]) rfl ?_
      refine zr_val (v' := .int 0) (congrArg Value.int (by decide)) ?_
      have e_ : mf_pour m_sort m_trayMany m_trays fr place to_ at_ many = (false, 1, m_trays) := by rw [mf_pour, if_pos c_1, if_neg c_3]
      exact zr_mz hx hb hr hlocks hP hD hS dX7_pour_33 rfl (by rw [e_]; rfl) (by rw [e_]) trivial
    · obtain ⟨ht0, ht1⟩ := isTray_t c_3
      refine lv_iload_n hx hb dX7_pour_14 rfl (lv_at hl 2 rfl) ?_
      refine lv_if_lt (tgt := 28) hx hb dX7_pour_15 (by decide) (fun c_5 => ?_) (fun c_5 => ?_)
      · refine lv_aload_n hx hb dX7_pour_28 rfl (lv_at hl 0 rfl) ?_
        refine lv_iconst (v := 1) hx hb dX7_pour_29 (by decide) ?_
        refine zr_muV (F := ()) (ff := fun _ => True) (rr := fun _ => some (.int (zb (decide ((1 : Int32) = 0))))) (w1 := fun _ => (mW G ad 1 m_top m_bottom m_taped m_size m_token m_from m_end m_value m_faultKind m_faultPlace m_faults m_seen m_depth m_counted m_lead m_round m_tried m_triedMany m_drawn m_ranSteps m_isTold m_marks m_at m_names m_sort m_trayMany m_trays m_tape m_text m_opened m_beside m_then m_ways m_further m_canBe m_loops m_ran m_told0)) ⟨hx, hb, hml, hown, hts⟩ (mt_mf_is l G ad m_status m_top m_bottom m_taped m_size m_token m_from m_end m_value m_faultKind m_faultPlace m_faults m_seen m_depth m_counted m_lead m_round m_tried m_triedMany m_drawn m_ranSteps m_isTold m_marks m_at m_names m_sort m_trayMany m_trays m_tape m_text m_opened m_beside m_then m_ways m_further m_canBe m_loops m_ran m_told0 1 H.size) (cwV 1 hts (lw_V q1604 q1606 qs60 q144 q1607) rfl rfl rfl hd_X7_is ⟨(Nat.le_of_ble_eq_true rfl), (Nat.le_of_ble_eq_true rfl)⟩) hP hD hS hA hK hE 0 7 rfl rfl rfl hl.1 rfl (Nat.le_of_ble_eq_true rfl) dX7_pour_30 ⟨Nat.le_refl _, Nat.le_refl _⟩ (fun _ _ _ H locs hP hD hS _ => ?_)
        refine W.eq (g2 := F0 m 33 ls [.int (zb (decide ((1 : Int32) = 0)))]) rfl ?_
        refine zr_val (v' := .int 0) (congrArg Value.int (by decide)) ?_
        have e_ : mf_pour m_sort m_trayMany m_trays fr place to_ at_ many = (false, 1, m_trays) := by rw [mf_pour, if_pos c_1, if_pos c_3, if_pos c_5]
        exact zr_mz hx hb hr hlocks hP hD hS dX7_pour_33 rfl (by rw [e_]; rfl) (by rw [e_]) trivial
      · have hp0 := c_5
        refine lv_iload hx hb dX7_pour_18 (lv_at hl 4 rfl) ?_
        refine lv_if_lt (tgt := 28) hx hb dX7_pour_20 (by decide) (fun c_7 => ?_) (fun c_7 => ?_)
        · refine lv_aload_n hx hb dX7_pour_28 rfl (lv_at hl 0 rfl) ?_
          refine lv_iconst (v := 1) hx hb dX7_pour_29 (by decide) ?_
          refine zr_muV (F := ()) (ff := fun _ => True) (rr := fun _ => some (.int (zb (decide ((1 : Int32) = 0))))) (w1 := fun _ => (mW G ad 1 m_top m_bottom m_taped m_size m_token m_from m_end m_value m_faultKind m_faultPlace m_faults m_seen m_depth m_counted m_lead m_round m_tried m_triedMany m_drawn m_ranSteps m_isTold m_marks m_at m_names m_sort m_trayMany m_trays m_tape m_text m_opened m_beside m_then m_ways m_further m_canBe m_loops m_ran m_told0)) ⟨hx, hb, hml, hown, hts⟩ (mt_mf_is l G ad m_status m_top m_bottom m_taped m_size m_token m_from m_end m_value m_faultKind m_faultPlace m_faults m_seen m_depth m_counted m_lead m_round m_tried m_triedMany m_drawn m_ranSteps m_isTold m_marks m_at m_names m_sort m_trayMany m_trays m_tape m_text m_opened m_beside m_then m_ways m_further m_canBe m_loops m_ran m_told0 1 H.size) (cwV 1 hts (lw_V q1604 q1606 qs60 q144 q1607) rfl rfl rfl hd_X7_is ⟨(Nat.le_of_ble_eq_true rfl), (Nat.le_of_ble_eq_true rfl)⟩) hP hD hS hA hK hE 0 7 rfl rfl rfl hl.1 rfl (Nat.le_of_ble_eq_true rfl) dX7_pour_30 ⟨Nat.le_refl _, Nat.le_refl _⟩ (fun _ _ _ H locs hP hD hS _ => ?_)
          refine W.eq (g2 := F0 m 33 ls [.int (zb (decide ((1 : Int32) = 0)))]) rfl ?_
          refine zr_val (v' := .int 0) (congrArg Value.int (by decide)) ?_
          have e_ : mf_pour m_sort m_trayMany m_trays fr place to_ at_ many = (false, 1, m_trays) := by rw [mf_pour, if_pos c_1, if_pos c_3, if_neg c_5, if_pos c_7]
          exact zr_mz hx hb hr hlocks hP hD hS dX7_pour_33 rfl (by rw [e_]; rfl) (by rw [e_]) trivial
        · have ha0 := c_7
          refine lv_iload hx hb dX7_pour_23 (lv_at hl 5 rfl) ?_
          refine lv_if_ge (tgt := 34) hx hb dX7_pour_25 (by decide) (fun c_9 => ?_) (fun c_9 => ?_)
          · have hm0 := z_0le c_9
            refine lv_aload_n hx hb dX7_pour_34 rfl (lv_at hl 0 rfl) ?_
            refine va_get (D := G.1) (ci := 7) (v := .ref (ad 4)) (C := RX7) (T := TX7) (N := 39) hx hb hts in_X7 hown hK.1 hP 0 rfl rfl 6 (Nat.le_of_ble_eq_true rfl) (hts _ q1473) (fun _ h => h) rfl dX7_pour_35 ?_
            refine lv_iload_n hx hb dX7_pour_38 rfl (lv_at hl 1 rfl) ?_
            refine zr_iald fr.toNatClampNeg (v := m_trayMany fr.toNatClampNeg) hx hb hK hP 4 rfl rfl (Nat.le_of_ble_eq_true rfl) (z_nn hf0) (by omega) rfl dX7_pour_39 ?_
            refine lv_iconst (v := (-1)) hx hb dX7_pour_40 (by decide) ?_
            refine lv_icmp_eq (tgt := 54) hx hb dX7_pour_41 (by decide) (fun c_10 => ?_) (fun c_10 => ?_)
            · refine lv_aload_n hx hb dX7_pour_54 rfl (lv_at hl 0 rfl) ?_
              refine lv_iconst (v := 2) hx hb dX7_pour_55 (by decide) ?_
              refine zr_muV (F := ()) (ff := fun _ => True) (rr := fun _ => some (.int (zb (decide ((2 : Int32) = 0))))) (w1 := fun _ => (mW G ad 2 m_top m_bottom m_taped m_size m_token m_from m_end m_value m_faultKind m_faultPlace m_faults m_seen m_depth m_counted m_lead m_round m_tried m_triedMany m_drawn m_ranSteps m_isTold m_marks m_at m_names m_sort m_trayMany m_trays m_tape m_text m_opened m_beside m_then m_ways m_further m_canBe m_loops m_ran m_told0)) ⟨hx, hb, hml, hown, hts⟩ (mt_mf_is l G ad m_status m_top m_bottom m_taped m_size m_token m_from m_end m_value m_faultKind m_faultPlace m_faults m_seen m_depth m_counted m_lead m_round m_tried m_triedMany m_drawn m_ranSteps m_isTold m_marks m_at m_names m_sort m_trayMany m_trays m_tape m_text m_opened m_beside m_then m_ways m_further m_canBe m_loops m_ran m_told0 2 H.size) (cwV 1 hts (lw_V q1604 q1606 qs60 q144 q1607) rfl rfl rfl hd_X7_is ⟨(Nat.le_of_ble_eq_true rfl), (Nat.le_of_ble_eq_true rfl)⟩) hP hD hS hA hK hE 0 7 rfl rfl rfl hl.1 rfl (Nat.le_of_ble_eq_true rfl) dX7_pour_56 ⟨Nat.le_refl _, Nat.le_refl _⟩ (fun _ _ _ H locs hP hD hS _ => ?_)
              refine W.eq (g2 := F0 m 59 ls [.int (zb (decide ((2 : Int32) = 0)))]) rfl ?_
              refine zr_val (v' := .int 0) (congrArg Value.int (by decide)) ?_
              have e_ : mf_pour m_sort m_trayMany m_trays fr place to_ at_ many = (false, 2, m_trays) := by rw [mf_pour, if_pos c_1, if_pos c_3, if_neg c_5, if_neg c_7, if_pos c_9, if_pos c_10]
              exact zr_mz hx hb hr hlocks hP hD hS dX7_pour_59 rfl (by rw [e_]; rfl) (by rw [e_]) trivial
            · have hfn := (hT _ hf1).resolve_left c_10
              refine lv_aload_n hx hb dX7_pour_44 rfl (lv_at hl 0 rfl) ?_
              refine va_get (D := G.1) (ci := 7) (v := .ref (ad 4)) (C := RX7) (T := TX7) (N := 39) hx hb hts in_X7 hown hK.1 hP 0 rfl rfl 6 (Nat.le_of_ble_eq_true rfl) (hts _ q1473) (fun _ h => h) rfl dX7_pour_45 ?_
              refine lv_iload_n hx hb dX7_pour_48 rfl (lv_at hl 3 rfl) ?_
              refine zr_iald to_.toNatClampNeg (v := m_trayMany to_.toNatClampNeg) hx hb hK hP 4 rfl rfl (Nat.le_of_ble_eq_true rfl) (z_nn ht0) (by omega) rfl dX7_pour_49 ?_
              refine lv_iconst (v := (-1)) hx hb dX7_pour_50 (by decide) ?_
              refine lv_icmp_ne (tgt := 60) hx hb dX7_pour_51 (by decide) (fun c_12 => ?_) (fun c_12 => ?_)
              · have htn := (hT _ ht1).resolve_left c_12
                refine lv_aload_n hx hb dX7_pour_60 rfl (lv_at hl 0 rfl) ?_
                refine va_get (D := G.1) (ci := 7) (v := .ref (ad 3)) (C := RX7) (T := TX7) (N := 39) hx hb hts in_X7 hown hK.1 hP 0 rfl rfl 5 (Nat.le_of_ble_eq_true rfl) (hts _ q1472) (fun _ h => h) rfl dX7_pour_61 ?_
                refine lv_iload_n hx hb dX7_pour_64 rfl (lv_at hl 1 rfl) ?_
                refine zr_iald fr.toNatClampNeg (v := m_sort fr.toNatClampNeg) hx hb hK hP 3 rfl rfl (Nat.le_of_ble_eq_true rfl) (z_nn hf0) (by omega) rfl dX7_pour_65 ?_
                refine lv_aload_n hx hb dX7_pour_66 rfl (lv_at hl 0 rfl) ?_
                refine va_get (D := G.1) (ci := 7) (v := .ref (ad 3)) (C := RX7) (T := TX7) (N := 39) hx hb hts in_X7 hown hK.1 hP 0 rfl rfl 5 (Nat.le_of_ble_eq_true rfl) (hts _ q1472) (fun _ h => h) rfl dX7_pour_67 ?_
                refine lv_iload_n hx hb dX7_pour_70 rfl (lv_at hl 3 rfl) ?_
                refine zr_iald to_.toNatClampNeg (v := m_sort to_.toNatClampNeg) hx hb hK hP 3 rfl rfl (Nat.le_of_ble_eq_true rfl) (z_nn ht0) (by omega) rfl dX7_pour_71 ?_
                refine lv_icmp_eq (tgt := 82) hx hb dX7_pour_72 (by decide) (fun c_13 => ?_) (fun c_13 => ?_)
                · refine lv_iload hx hb dX7_pour_82 (lv_at hl 5 rfl) ?_
                  refine lv_aload_n hx hb dX7_pour_84 rfl (lv_at hl 0 rfl) ?_
                  refine va_get (D := G.1) (ci := 7) (v := .ref (ad 4)) (C := RX7) (T := TX7) (N := 39) hx hb hts in_X7 hown hK.1 hP 0 rfl rfl 6 (Nat.le_of_ble_eq_true rfl) (hts _ q1473) (fun _ h => h) rfl dX7_pour_85 ?_
                  refine lv_iload_n hx hb dX7_pour_88 rfl (lv_at hl 1 rfl) ?_
                  refine zr_iald fr.toNatClampNeg (v := nI ((m_trayMany fr.toNatClampNeg).toNatClampNeg)) hx hb hK hP 4 rfl rfl (Nat.le_of_ble_eq_true rfl) (z_nn hf0) (by omega) (z_nn hfn.1) dX7_pour_89 ?_
                  refine lv_iload_n hx hb dX7_pour_90 rfl (lv_at hl 2 rfl) ?_
                  refine lv_isub hx hb dX7_pour_91 ?_
                  refine lv_icmp_gt (tgt := 109) hx hb dX7_pour_92 (by decide) (fun c_14 => ?_) (fun c_14 => ?_)
                  · refine lv_aload_n hx hb dX7_pour_109 rfl (lv_at hl 0 rfl) ?_
                    refine lv_iconst (v := 3) hx hb dX7_pour_110 (by decide) ?_
                    refine zr_muV (F := ()) (ff := fun _ => True) (rr := fun _ => some (.int (zb (decide ((3 : Int32) = 0))))) (w1 := fun _ => (mW G ad 3 m_top m_bottom m_taped m_size m_token m_from m_end m_value m_faultKind m_faultPlace m_faults m_seen m_depth m_counted m_lead m_round m_tried m_triedMany m_drawn m_ranSteps m_isTold m_marks m_at m_names m_sort m_trayMany m_trays m_tape m_text m_opened m_beside m_then m_ways m_further m_canBe m_loops m_ran m_told0)) ⟨hx, hb, hml, hown, hts⟩ (mt_mf_is l G ad m_status m_top m_bottom m_taped m_size m_token m_from m_end m_value m_faultKind m_faultPlace m_faults m_seen m_depth m_counted m_lead m_round m_tried m_triedMany m_drawn m_ranSteps m_isTold m_marks m_at m_names m_sort m_trayMany m_trays m_tape m_text m_opened m_beside m_then m_ways m_further m_canBe m_loops m_ran m_told0 3 H.size) (cwV 1 hts (lw_V q1604 q1606 qs60 q144 q1607) rfl rfl rfl hd_X7_is ⟨(Nat.le_of_ble_eq_true rfl), (Nat.le_of_ble_eq_true rfl)⟩) hP hD hS hA hK hE 0 7 rfl rfl rfl hl.1 rfl (Nat.le_of_ble_eq_true rfl) dX7_pour_111 ⟨Nat.le_refl _, Nat.le_refl _⟩ (fun _ _ _ H locs hP hD hS _ => ?_)
                    refine W.eq (g2 := F0 m 114 ls [.int (zb (decide ((3 : Int32) = 0)))]) rfl ?_
                    refine zr_val (v' := .int 0) (congrArg Value.int (by decide)) ?_
                    have e_ : mf_pour m_sort m_trayMany m_trays fr place to_ at_ many = (false, 3, m_trays) := by rw [mf_pour, if_pos c_1, if_pos c_3, if_neg c_5, if_neg c_7, if_pos c_9, if_neg c_10, if_neg c_12, if_pos c_13, if_pos c_14]
                    exact zr_mz hx hb hr hlocks hP hD hS dX7_pour_114 rfl (by rw [e_]; rfl) (by rw [e_]) trivial
                  · have hs1 := c_14
                    refine lv_iload hx hb dX7_pour_95 (lv_at hl 5 rfl) ?_
                    refine lv_aload_n hx hb dX7_pour_97 rfl (lv_at hl 0 rfl) ?_
                    refine va_get (D := G.1) (ci := 7) (v := .ref (ad 4)) (C := RX7) (T := TX7) (N := 39) hx hb hts in_X7 hown hK.1 hP 0 rfl rfl 6 (Nat.le_of_ble_eq_true rfl) (hts _ q1473) (fun _ h => h) rfl dX7_pour_98 ?_
                    refine lv_iload_n hx hb dX7_pour_101 rfl (lv_at hl 3 rfl) ?_
                    refine zr_iald to_.toNatClampNeg (v := nI ((m_trayMany to_.toNatClampNeg).toNatClampNeg)) hx hb hK hP 4 rfl rfl (Nat.le_of_ble_eq_true rfl) (z_nn ht0) (by omega) (z_nn htn.1) dX7_pour_102 ?_
                    refine lv_iload hx hb dX7_pour_103 (lv_at hl 4 rfl) ?_
                    refine lv_isub hx hb dX7_pour_105 ?_
                    refine lv_icmp_le (tgt := 115) hx hb dX7_pour_106 (by decide) (fun c_16 => ?_) (fun c_16 => ?_)
                    · have hs2 := c_16
                      have hpn := z_nn hp0
                      have han := z_nn ha0
                      have hmn := z_nn hm0
                      have hpb := z_nb hp0
                      have hab := z_nb ha0
                      have hmb := z_nb hm0
                      have hsz1 := z_subc hfn.2 hpb hmb (by rw [← hpn, ← hmn]; exact hs1)
                      have hsz2 := z_subc' htn.2 hab hmb (by rw [← han, ← hmn]; exact hs2)
                      have hl : lv_has ls 8 [(0, .ref (ad 0)), (1, .int fr), (2, .int (nI place.toNatClampNeg)), (3, .int to_), (4, .int at_), (5, .int many)] := by rw [← (hpn : place = nI place.toNatClampNeg)]; exact hl
                      have hl : lv_has ls 8 [(0, .ref (ad 0)), (1, .int fr), (2, .int (nI place.toNatClampNeg)), (3, .int to_), (4, .int (nI at_.toNatClampNeg)), (5, .int many)] := by rw [← (han : at_ = nI at_.toNatClampNeg)]; exact hl
                      have hl : lv_has ls 8 [(0, .ref (ad 0)), (1, .int fr), (2, .int (nI place.toNatClampNeg)), (3, .int to_), (4, .int (nI at_.toNatClampNeg)), (5, .int (nI many.toNatClampNeg))] := by rw [← (hmn : many = nI many.toNatClampNeg)]; exact hl
                      refine lv_iconst (v := 0) hx hb dX7_pour_115 (by decide) ?_
                      refine lv_istore (lv' := [(6, .int 0), (0, .ref (ad 0)), (1, .int fr), (2, .int (nI place.toNatClampNeg)), (3, .int to_), (4, .int (nI at_.toNatClampNeg)), (5, .int (nI many.toNatClampNeg))]) hx hb dX7_pour_116 hl (by decide) rfl (fun ls hl => ?_)
                      have hlp_17 : ∀ (n k_17 : Nat) (s_17 : (Nat → Int64)), k_17 ≤ many.toNatClampNeg → many.toNatClampNeg < k_17 + n → zf (mf_pour_B118 fr place to_ at_ many) m_trays k_17 = s_17 → ∀ (H : Heap) (locs : List Loc), va_P G.1 zcl (mW G ad m_status m_top m_bottom m_taped m_size m_token m_from m_end m_value m_faultKind m_faultPlace m_faults m_seen m_depth m_counted m_lead m_round m_tried m_triedMany m_drawn m_ranSteps m_isTold m_marks m_at m_names m_sort m_trayMany s_17 m_tape m_text m_opened m_beside m_then m_ways m_further m_canBe m_loops m_ran m_told0) H → va_D A (mW G ad m_status m_top m_bottom m_taped m_size m_token m_from m_end m_value m_faultKind m_faultPlace m_faults m_seen m_depth m_counted m_lead m_round m_tried m_triedMany m_drawn m_ranSteps m_isTold m_marks m_at m_names m_sort m_trayMany s_17 m_tape m_text m_opened m_beside m_then m_ways m_further m_canBe m_loops m_ran m_told0) → va_S A s.heap H locs → ∀ ls : Array Slot, lv_has ls 8 [(6, .int (nI k_17)), (0, .ref (ad 0)), (1, .int fr), (2, .int (nI place.toNatClampNeg)), (3, .int to_), (4, .int (nI at_.toNatClampNeg)), (5, .int (nI many.toNatClampNeg))] → W p l e (zR 2 0 0) s m ([.ref (ad 0), .int fr, .int place, .int to_, .int at_, .int many] : List Value).toArray below meth c H locs 0 0 (MQ below (zQm G (True) (some (.int (zb ((mf_pour m_sort m_trayMany m_trays fr place to_ at_ many).1)))) (mW G ad ((mf_pour m_sort m_trayMany m_trays fr place to_ at_ many).2.1) m_top m_bottom m_taped m_size m_token m_from m_end m_value m_faultKind m_faultPlace m_faults m_seen m_depth m_counted m_lead m_round m_tried m_triedMany m_drawn m_ranSteps m_isTold m_marks m_at m_names m_sort m_trayMany ((mf_pour m_sort m_trayMany m_trays fr place to_ at_ many).2.2) m_tape m_text m_opened m_beside m_then m_ways m_further m_canBe m_loops m_ran m_told0) A) ([.ref (ad 0), .int fr, .int place, .int to_, .int at_, .int many] : List Value).toArray s 0 0 A) (F0 m 118 ls []) := by
                        intro n
                        induction n with
                        | zero => intro k_17 s_17 h1 h2; exact absurd h2 (by omega)
                        | succ n ih_17 =>
                          intro k_17 s_17 hk_17 hn_17 hst_17 H locs hP hD hS ls hl
                          refine lv_iload hx hb dX7_pour_118 (lv_at hl 0 rfl) ?_
                          refine lv_iload hx hb dX7_pour_120 (lv_at hl 6 rfl) ?_
                          refine zr_ge k_17 many.toNatClampNeg (by omega) (by omega) (tgt := 180) hx hb dX7_pour_122 (by decide) (fun c_17 => ?_) (fun c_17 => ?_)
                          · have ek_17 : k_17 = many.toNatClampNeg := Nat.le_antisymm hk_17 c_17
                            have hs_17 : mf_pour_L118 fr place to_ at_ many m_trays = s_17 := by rw [ek_17] at hst_17; exact hst_17
                            have hl := lv_sub hl (l' := _) [1, 2, 3, 4, 5, 6] rfl
                            refine lv_aload_n hx hb dX7_pour_180 rfl (lv_at hl 0 rfl) ?_
                            refine lv_iconst (v := 0) hx hb dX7_pour_181 (by decide) ?_
                            refine zr_muV (F := ()) (ff := fun _ => True) (rr := fun _ => some (.int (zb (decide ((0 : Int32) = 0))))) (w1 := fun _ => (mW G ad 0 m_top m_bottom m_taped m_size m_token m_from m_end m_value m_faultKind m_faultPlace m_faults m_seen m_depth m_counted m_lead m_round m_tried m_triedMany m_drawn m_ranSteps m_isTold m_marks m_at m_names m_sort m_trayMany s_17 m_tape m_text m_opened m_beside m_then m_ways m_further m_canBe m_loops m_ran m_told0)) ⟨hx, hb, hml, hown, hts⟩ (mt_mf_is l G ad m_status m_top m_bottom m_taped m_size m_token m_from m_end m_value m_faultKind m_faultPlace m_faults m_seen m_depth m_counted m_lead m_round m_tried m_triedMany m_drawn m_ranSteps m_isTold m_marks m_at m_names m_sort m_trayMany s_17 m_tape m_text m_opened m_beside m_then m_ways m_further m_canBe m_loops m_ran m_told0 0 H.size) (cwV 1 hts (lw_V q1604 q1606 qs60 q144 q1607) rfl rfl rfl hd_X7_is ⟨(Nat.le_of_ble_eq_true rfl), (Nat.le_of_ble_eq_true rfl)⟩) hP hD hS hA hK hE 0 7 rfl rfl rfl hl.1 rfl (Nat.le_of_ble_eq_true rfl) dX7_pour_182 ⟨Nat.le_refl _, Nat.le_refl _⟩ (fun _ _ _ H locs hP hD hS _ => ?_)
                            refine W.eq (g2 := F0 m 185 ls [.int (zb (decide ((0 : Int32) = 0)))]) rfl ?_
                            refine zr_val (v' := .int 1) (congrArg Value.int (by decide)) ?_
                            have e_ : mf_pour m_sort m_trayMany m_trays fr place to_ at_ many = (true, 0, s_17) := by rw [mf_pour, if_pos c_1, if_pos c_3, if_neg c_5, if_neg c_7, if_pos c_9, if_neg c_10, if_neg c_12, if_pos c_13, if_neg c_14, if_pos c_16, zlet_eq hs_17]
                            exact zr_mz hx hb hr hlocks hP hD hS dX7_pour_185 rfl (by rw [e_]; rfl) (by rw [e_]) trivial
                          · have hlt_17 : k_17 < many.toNatClampNeg := Nat.lt_of_not_le c_17
                            refine lv_iload_n hx hb dX7_pour_125 rfl (lv_at hl 3 rfl) ?_
                            refine lv_iload hx hb dX7_pour_126 (lv_at hl 5 rfl) ?_
                            refine zr_ge place.toNatClampNeg at_.toNatClampNeg (by omega) (by omega) (tgt := 141) hx hb dX7_pour_128 (by decide) (fun c_18 => ?_) (fun c_18 => ?_)
                            · refine lv_iload hx hb dX7_pour_141 (lv_at hl 0 rfl) ?_
                              refine lv_istore (lv' := [(7, .int (nI k_17)), (6, .int (nI k_17)), (0, .ref (ad 0)), (1, .int fr), (2, .int (nI place.toNatClampNeg)), (3, .int to_), (4, .int (nI at_.toNatClampNeg)), (5, .int (nI many.toNatClampNeg))]) hx hb dX7_pour_143 hl (by decide) rfl (fun ls hl => ?_)
                              refine lv_aload_n hx hb dX7_pour_145 rfl (lv_at hl 2 rfl) ?_
                              refine va_get (D := G.1) (ci := 7) (v := .ref (ad 5)) (C := RX7) (T := TX7) (N := 39) hx hb hts in_X7 hown hK.1 hP 0 rfl rfl 7 (Nat.le_of_ble_eq_true rfl) (hts _ q1474) (fun _ h => h) rfl dX7_pour_146 ?_
                              refine lv_bipush (v := 60) hx hb dX7_pour_149 (by decide) ?_
                              refine lv_iload_n hx hb dX7_pour_151 rfl (lv_at hl 5 rfl) ?_
                              refine zr_val (congrArg Value.int (z_nn ht0)) ?_
                              refine W.eq (g2 := F0 m 152 ls [.int (nI to_.toNatClampNeg), .int 60, .ref (ad 5)]) rfl ?_
                              refine zr_imulN 60 to_.toNatClampNeg hx hb dX7_pour_152 ?_
                              refine lv_iload hx hb dX7_pour_153 (lv_at hl 6 rfl) ?_
                              refine zr_iaddN (60 * to_.toNatClampNeg) at_.toNatClampNeg hx hb dX7_pour_155 ?_
                              refine zr_val (v' := .int (nI (60 * to_.toNatClampNeg + at_.toNatClampNeg))) (by rfl) ?_
                              refine lv_iload hx hb dX7_pour_156 (lv_at hl 0 rfl) ?_
                              refine zr_iaddN (60 * to_.toNatClampNeg + at_.toNatClampNeg) k_17 hx hb dX7_pour_158 ?_
                              refine zr_val (v' := .int (nI (60 * to_.toNatClampNeg + at_.toNatClampNeg + k_17))) (by rfl) ?_
                              refine lv_aload_n hx hb dX7_pour_159 rfl (lv_at hl 2 rfl) ?_
                              refine va_get (D := G.1) (ci := 7) (v := .ref (ad 5)) (C := RX7) (T := TX7) (N := 39) hx hb hts in_X7 hown hK.1 hP 0 rfl rfl 7 (Nat.le_of_ble_eq_true rfl) (hts _ q1474) (fun _ h => h) rfl dX7_pour_160 ?_
                              refine lv_bipush (v := 60) hx hb dX7_pour_163 (by decide) ?_
                              refine lv_iload_n hx hb dX7_pour_165 rfl (lv_at hl 3 rfl) ?_
                              refine zr_val (congrArg Value.int (z_nn hf0)) ?_
                              refine W.eq (g2 := F0 m 166 ls [.int (nI fr.toNatClampNeg), .int 60, .ref (ad 5), .int (nI (60 * to_.toNatClampNeg + at_.toNatClampNeg + k_17)), .ref (ad 5)]) rfl ?_
                              refine zr_imulN 60 fr.toNatClampNeg hx hb dX7_pour_166 ?_
                              refine lv_iload_n hx hb dX7_pour_167 rfl (lv_at hl 4 rfl) ?_
                              refine zr_iaddN (60 * fr.toNatClampNeg) place.toNatClampNeg hx hb dX7_pour_168 ?_
                              refine zr_val (v' := .int (nI (60 * fr.toNatClampNeg + place.toNatClampNeg))) (by rfl) ?_
                              refine lv_iload hx hb dX7_pour_169 (lv_at hl 0 rfl) ?_
                              refine zr_iaddN (60 * fr.toNatClampNeg + place.toNatClampNeg) k_17 hx hb dX7_pour_171 ?_
                              refine zr_val (v' := .int (nI (60 * fr.toNatClampNeg + place.toNatClampNeg + k_17))) (by rfl) ?_
                              refine zr_lald (60 * fr.toNatClampNeg + place.toNatClampNeg + k_17) (v := s_17 (60 * fr.toNatClampNeg + place.toNatClampNeg + k_17)) hx hb hK hP 5 rfl rfl (Nat.le_of_ble_eq_true rfl) rfl (by omega) rfl dX7_pour_172 ?_
                              refine zr_last (60 * to_.toNatClampNeg + at_.toNatClampNeg + k_17) (ws' := (mW G ad m_status m_top m_bottom m_taped m_size m_token m_from m_end m_value m_faultKind m_faultPlace m_faults m_seen m_depth m_counted m_lead m_round m_tried m_triedMany m_drawn m_ranSteps m_isTold m_marks m_at m_names m_sort m_trayMany (vp_updL s_17 (60 * to_.toNatClampNeg + at_.toNatClampNeg + k_17) (s_17 (60 * fr.toNatClampNeg + place.toNatClampNeg + k_17))) m_tape m_text m_opened m_beside m_then m_ways m_further m_canBe m_loops m_ran m_told0)) hx hb hK hP hD hS 5 rfl rfl (Nat.le_of_ble_eq_true rfl) rfl (by omega) rfl dX7_pour_173 (fun H locs hP hD hS => ?_)
                              refine lv_iinc (v := nI (k_17 + 1)) (lv' := [(6, .int (nI (k_17 + 1))), (7, .int (nI k_17)), (0, .ref (ad 0)), (1, .int fr), (2, .int (nI place.toNatClampNeg)), (3, .int to_), (4, .int (nI at_.toNatClampNeg)), (5, .int (nI many.toNatClampNeg))]) hx hb dX7_pour_174 hl (k := 1) rfl (nI_add k_17 1) (by decide) rfl (fun ls hl => ?_)
                              refine lv_goto (tgt := 118) hx hb dX7_pour_177 (by decide) ?_
                              exact ih_17 (k_17 + 1) (vp_updL s_17 (60 * to_.toNatClampNeg + at_.toNatClampNeg + k_17) (s_17 (60 * fr.toNatClampNeg + place.toNatClampNeg + k_17))) hlt_17 (by omega) (zf_s hst_17 (by rw [mf_pour_B118, if_pos c_18])) H locs hP hD hS ls (lv_sub hl [0, 2, 3, 4, 5, 6, 7] rfl)
                            · refine lv_iload hx hb dX7_pour_131 (lv_at hl 6 rfl) ?_
                              refine lv_iconst (v := 1) hx hb dX7_pour_133 (by decide) ?_
                              refine zr_isubN many.toNatClampNeg 1 (by omega) hx hb dX7_pour_134 ?_
                              refine lv_iload hx hb dX7_pour_135 (lv_at hl 0 rfl) ?_
                              refine zr_isubN (many.toNatClampNeg - 1) k_17 (by omega) hx hb dX7_pour_137 ?_
                              refine lv_goto (tgt := 143) hx hb dX7_pour_138 (by decide) ?_
                              refine lv_istore (lv' := [(7, .int (nI ((many.toNatClampNeg - 1) - k_17))), (6, .int (nI k_17)), (0, .ref (ad 0)), (1, .int fr), (2, .int (nI place.toNatClampNeg)), (3, .int to_), (4, .int (nI at_.toNatClampNeg)), (5, .int (nI many.toNatClampNeg))]) hx hb dX7_pour_143 hl (by decide) rfl (fun ls hl => ?_)
                              refine lv_aload_n hx hb dX7_pour_145 rfl (lv_at hl 2 rfl) ?_
                              refine va_get (D := G.1) (ci := 7) (v := .ref (ad 5)) (C := RX7) (T := TX7) (N := 39) hx hb hts in_X7 hown hK.1 hP 0 rfl rfl 7 (Nat.le_of_ble_eq_true rfl) (hts _ q1474) (fun _ h => h) rfl dX7_pour_146 ?_
                              refine lv_bipush (v := 60) hx hb dX7_pour_149 (by decide) ?_
                              refine lv_iload_n hx hb dX7_pour_151 rfl (lv_at hl 5 rfl) ?_
                              refine zr_val (congrArg Value.int (z_nn ht0)) ?_
                              refine W.eq (g2 := F0 m 152 ls [.int (nI to_.toNatClampNeg), .int 60, .ref (ad 5)]) rfl ?_
                              refine zr_imulN 60 to_.toNatClampNeg hx hb dX7_pour_152 ?_
                              refine lv_iload hx hb dX7_pour_153 (lv_at hl 6 rfl) ?_
                              refine zr_iaddN (60 * to_.toNatClampNeg) at_.toNatClampNeg hx hb dX7_pour_155 ?_
                              refine zr_val (v' := .int (nI (60 * to_.toNatClampNeg + at_.toNatClampNeg))) (by rfl) ?_
                              refine lv_iload hx hb dX7_pour_156 (lv_at hl 0 rfl) ?_
                              refine zr_iaddN (60 * to_.toNatClampNeg + at_.toNatClampNeg) ((many.toNatClampNeg - 1) - k_17) hx hb dX7_pour_158 ?_
                              refine zr_val (v' := .int (nI (60 * to_.toNatClampNeg + at_.toNatClampNeg + ((many.toNatClampNeg - 1) - k_17)))) (by rfl) ?_
                              refine lv_aload_n hx hb dX7_pour_159 rfl (lv_at hl 2 rfl) ?_
                              refine va_get (D := G.1) (ci := 7) (v := .ref (ad 5)) (C := RX7) (T := TX7) (N := 39) hx hb hts in_X7 hown hK.1 hP 0 rfl rfl 7 (Nat.le_of_ble_eq_true rfl) (hts _ q1474) (fun _ h => h) rfl dX7_pour_160 ?_
                              refine lv_bipush (v := 60) hx hb dX7_pour_163 (by decide) ?_
                              refine lv_iload_n hx hb dX7_pour_165 rfl (lv_at hl 3 rfl) ?_
                              refine zr_val (congrArg Value.int (z_nn hf0)) ?_
                              refine W.eq (g2 := F0 m 166 ls [.int (nI fr.toNatClampNeg), .int 60, .ref (ad 5), .int (nI (60 * to_.toNatClampNeg + at_.toNatClampNeg + ((many.toNatClampNeg - 1) - k_17))), .ref (ad 5)]) rfl ?_
                              refine zr_imulN 60 fr.toNatClampNeg hx hb dX7_pour_166 ?_
                              refine lv_iload_n hx hb dX7_pour_167 rfl (lv_at hl 4 rfl) ?_
                              refine zr_iaddN (60 * fr.toNatClampNeg) place.toNatClampNeg hx hb dX7_pour_168 ?_
                              refine zr_val (v' := .int (nI (60 * fr.toNatClampNeg + place.toNatClampNeg))) (by rfl) ?_
                              refine lv_iload hx hb dX7_pour_169 (lv_at hl 0 rfl) ?_
                              refine zr_iaddN (60 * fr.toNatClampNeg + place.toNatClampNeg) ((many.toNatClampNeg - 1) - k_17) hx hb dX7_pour_171 ?_
                              refine zr_val (v' := .int (nI (60 * fr.toNatClampNeg + place.toNatClampNeg + ((many.toNatClampNeg - 1) - k_17)))) (by rfl) ?_
                              refine zr_lald (60 * fr.toNatClampNeg + place.toNatClampNeg + ((many.toNatClampNeg - 1) - k_17)) (v := s_17 (60 * fr.toNatClampNeg + place.toNatClampNeg + ((many.toNatClampNeg - 1) - k_17))) hx hb hK hP 5 rfl rfl (Nat.le_of_ble_eq_true rfl) rfl (by omega) rfl dX7_pour_172 ?_
                              refine zr_last (60 * to_.toNatClampNeg + at_.toNatClampNeg + ((many.toNatClampNeg - 1) - k_17)) (ws' := (mW G ad m_status m_top m_bottom m_taped m_size m_token m_from m_end m_value m_faultKind m_faultPlace m_faults m_seen m_depth m_counted m_lead m_round m_tried m_triedMany m_drawn m_ranSteps m_isTold m_marks m_at m_names m_sort m_trayMany (vp_updL s_17 (60 * to_.toNatClampNeg + at_.toNatClampNeg + ((many.toNatClampNeg - 1) - k_17)) (s_17 (60 * fr.toNatClampNeg + place.toNatClampNeg + ((many.toNatClampNeg - 1) - k_17)))) m_tape m_text m_opened m_beside m_then m_ways m_further m_canBe m_loops m_ran m_told0)) hx hb hK hP hD hS 5 rfl rfl (Nat.le_of_ble_eq_true rfl) rfl (by omega) rfl dX7_pour_173 (fun H locs hP hD hS => ?_)
                              refine lv_iinc (v := nI (k_17 + 1)) (lv' := [(6, .int (nI (k_17 + 1))), (7, .int (nI ((many.toNatClampNeg - 1) - k_17))), (0, .ref (ad 0)), (1, .int fr), (2, .int (nI place.toNatClampNeg)), (3, .int to_), (4, .int (nI at_.toNatClampNeg)), (5, .int (nI many.toNatClampNeg))]) hx hb dX7_pour_174 hl (k := 1) rfl (nI_add k_17 1) (by decide) rfl (fun ls hl => ?_)
                              refine lv_goto (tgt := 118) hx hb dX7_pour_177 (by decide) ?_
                              exact ih_17 (k_17 + 1) (vp_updL s_17 (60 * to_.toNatClampNeg + at_.toNatClampNeg + ((many.toNatClampNeg - 1) - k_17)) (s_17 (60 * fr.toNatClampNeg + place.toNatClampNeg + ((many.toNatClampNeg - 1) - k_17)))) hlt_17 (by omega) (zf_s hst_17 (by rw [mf_pour_B118, if_neg c_18])) H locs hP hD hS ls (lv_sub hl [0, 2, 3, 4, 5, 6, 7] rfl)
                      exact hlp_17 (many.toNatClampNeg + 1) 0 m_trays (Nat.zero_le _) (by omega) rfl H locs hP hD hS ls (lv_sub hl [0, 1, 2, 3, 4, 5, 6] rfl)
                    · refine lv_aload_n hx hb dX7_pour_109 rfl (lv_at hl 0 rfl) ?_
                      refine lv_iconst (v := 3) hx hb dX7_pour_110 (by decide) ?_
                      refine zr_muV (F := ()) (ff := fun _ => True) (rr := fun _ => some (.int (zb (decide ((3 : Int32) = 0))))) (w1 := fun _ => (mW G ad 3 m_top m_bottom m_taped m_size m_token m_from m_end m_value m_faultKind m_faultPlace m_faults m_seen m_depth m_counted m_lead m_round m_tried m_triedMany m_drawn m_ranSteps m_isTold m_marks m_at m_names m_sort m_trayMany m_trays m_tape m_text m_opened m_beside m_then m_ways m_further m_canBe m_loops m_ran m_told0)) ⟨hx, hb, hml, hown, hts⟩ (mt_mf_is l G ad m_status m_top m_bottom m_taped m_size m_token m_from m_end m_value m_faultKind m_faultPlace m_faults m_seen m_depth m_counted m_lead m_round m_tried m_triedMany m_drawn m_ranSteps m_isTold m_marks m_at m_names m_sort m_trayMany m_trays m_tape m_text m_opened m_beside m_then m_ways m_further m_canBe m_loops m_ran m_told0 3 H.size) (cwV 1 hts (lw_V q1604 q1606 qs60 q144 q1607) rfl rfl rfl hd_X7_is ⟨(Nat.le_of_ble_eq_true rfl), (Nat.le_of_ble_eq_true rfl)⟩) hP hD hS hA hK hE 0 7 rfl rfl rfl hl.1 rfl (Nat.le_of_ble_eq_true rfl) dX7_pour_111 ⟨Nat.le_refl _, Nat.le_refl _⟩ (fun _ _ _ H locs hP hD hS _ => ?_)
                      refine W.eq (g2 := F0 m 114 ls [.int (zb (decide ((3 : Int32) = 0)))]) rfl ?_
                      refine zr_val (v' := .int 0) (congrArg Value.int (by decide)) ?_
                      have e_ : mf_pour m_sort m_trayMany m_trays fr place to_ at_ many = (false, 3, m_trays) := by rw [mf_pour, if_pos c_1, if_pos c_3, if_neg c_5, if_neg c_7, if_pos c_9, if_neg c_10, if_neg c_12, if_pos c_13, if_neg c_14, if_neg c_16]
                      exact zr_mz hx hb hr hlocks hP hD hS dX7_pour_114 rfl (by rw [e_]; rfl) (by rw [e_]) trivial
                · refine lv_aload_n hx hb dX7_pour_75 rfl (lv_at hl 0 rfl) ?_
                  refine lv_bipush (v := 8) hx hb dX7_pour_76 (by decide) ?_
                  refine zr_muV (F := ()) (ff := fun _ => True) (rr := fun _ => some (.int (zb (decide ((8 : Int32) = 0))))) (w1 := fun _ => (mW G ad 8 m_top m_bottom m_taped m_size m_token m_from m_end m_value m_faultKind m_faultPlace m_faults m_seen m_depth m_counted m_lead m_round m_tried m_triedMany m_drawn m_ranSteps m_isTold m_marks m_at m_names m_sort m_trayMany m_trays m_tape m_text m_opened m_beside m_then m_ways m_further m_canBe m_loops m_ran m_told0)) ⟨hx, hb, hml, hown, hts⟩ (mt_mf_is l G ad m_status m_top m_bottom m_taped m_size m_token m_from m_end m_value m_faultKind m_faultPlace m_faults m_seen m_depth m_counted m_lead m_round m_tried m_triedMany m_drawn m_ranSteps m_isTold m_marks m_at m_names m_sort m_trayMany m_trays m_tape m_text m_opened m_beside m_then m_ways m_further m_canBe m_loops m_ran m_told0 8 H.size) (cwV 1 hts (lw_V q1604 q1606 qs60 q144 q1607) rfl rfl rfl hd_X7_is ⟨(Nat.le_of_ble_eq_true rfl), (Nat.le_of_ble_eq_true rfl)⟩) hP hD hS hA hK hE 0 7 rfl rfl rfl hl.1 rfl (Nat.le_of_ble_eq_true rfl) dX7_pour_78 ⟨Nat.le_refl _, Nat.le_refl _⟩ (fun _ _ _ H locs hP hD hS _ => ?_)
                  refine W.eq (g2 := F0 m 81 ls [.int (zb (decide ((8 : Int32) = 0)))]) rfl ?_
                  refine zr_val (v' := .int 0) (congrArg Value.int (by decide)) ?_
                  have e_ : mf_pour m_sort m_trayMany m_trays fr place to_ at_ many = (false, 8, m_trays) := by rw [mf_pour, if_pos c_1, if_pos c_3, if_neg c_5, if_neg c_7, if_pos c_9, if_neg c_10, if_neg c_12, if_neg c_13]
                  exact zr_mz hx hb hr hlocks hP hD hS dX7_pour_81 rfl (by rw [e_]; rfl) (by rw [e_]) trivial
              · refine lv_aload_n hx hb dX7_pour_54 rfl (lv_at hl 0 rfl) ?_
                refine lv_iconst (v := 2) hx hb dX7_pour_55 (by decide) ?_
                refine zr_muV (F := ()) (ff := fun _ => True) (rr := fun _ => some (.int (zb (decide ((2 : Int32) = 0))))) (w1 := fun _ => (mW G ad 2 m_top m_bottom m_taped m_size m_token m_from m_end m_value m_faultKind m_faultPlace m_faults m_seen m_depth m_counted m_lead m_round m_tried m_triedMany m_drawn m_ranSteps m_isTold m_marks m_at m_names m_sort m_trayMany m_trays m_tape m_text m_opened m_beside m_then m_ways m_further m_canBe m_loops m_ran m_told0)) ⟨hx, hb, hml, hown, hts⟩ (mt_mf_is l G ad m_status m_top m_bottom m_taped m_size m_token m_from m_end m_value m_faultKind m_faultPlace m_faults m_seen m_depth m_counted m_lead m_round m_tried m_triedMany m_drawn m_ranSteps m_isTold m_marks m_at m_names m_sort m_trayMany m_trays m_tape m_text m_opened m_beside m_then m_ways m_further m_canBe m_loops m_ran m_told0 2 H.size) (cwV 1 hts (lw_V q1604 q1606 qs60 q144 q1607) rfl rfl rfl hd_X7_is ⟨(Nat.le_of_ble_eq_true rfl), (Nat.le_of_ble_eq_true rfl)⟩) hP hD hS hA hK hE 0 7 rfl rfl rfl hl.1 rfl (Nat.le_of_ble_eq_true rfl) dX7_pour_56 ⟨Nat.le_refl _, Nat.le_refl _⟩ (fun _ _ _ H locs hP hD hS _ => ?_)
                refine W.eq (g2 := F0 m 59 ls [.int (zb (decide ((2 : Int32) = 0)))]) rfl ?_
                refine zr_val (v' := .int 0) (congrArg Value.int (by decide)) ?_
                have e_ : mf_pour m_sort m_trayMany m_trays fr place to_ at_ many = (false, 2, m_trays) := by rw [mf_pour, if_pos c_1, if_pos c_3, if_neg c_5, if_neg c_7, if_pos c_9, if_neg c_10, if_pos c_12]
                exact zr_mz hx hb hr hlocks hP hD hS dX7_pour_59 rfl (by rw [e_]; rfl) (by rw [e_]) trivial
          · refine lv_aload_n hx hb dX7_pour_28 rfl (lv_at hl 0 rfl) ?_
            refine lv_iconst (v := 1) hx hb dX7_pour_29 (by decide) ?_
            refine zr_muV (F := ()) (ff := fun _ => True) (rr := fun _ => some (.int (zb (decide ((1 : Int32) = 0))))) (w1 := fun _ => (mW G ad 1 m_top m_bottom m_taped m_size m_token m_from m_end m_value m_faultKind m_faultPlace m_faults m_seen m_depth m_counted m_lead m_round m_tried m_triedMany m_drawn m_ranSteps m_isTold m_marks m_at m_names m_sort m_trayMany m_trays m_tape m_text m_opened m_beside m_then m_ways m_further m_canBe m_loops m_ran m_told0)) ⟨hx, hb, hml, hown, hts⟩ (mt_mf_is l G ad m_status m_top m_bottom m_taped m_size m_token m_from m_end m_value m_faultKind m_faultPlace m_faults m_seen m_depth m_counted m_lead m_round m_tried m_triedMany m_drawn m_ranSteps m_isTold m_marks m_at m_names m_sort m_trayMany m_trays m_tape m_text m_opened m_beside m_then m_ways m_further m_canBe m_loops m_ran m_told0 1 H.size) (cwV 1 hts (lw_V q1604 q1606 qs60 q144 q1607) rfl rfl rfl hd_X7_is ⟨(Nat.le_of_ble_eq_true rfl), (Nat.le_of_ble_eq_true rfl)⟩) hP hD hS hA hK hE 0 7 rfl rfl rfl hl.1 rfl (Nat.le_of_ble_eq_true rfl) dX7_pour_30 ⟨Nat.le_refl _, Nat.le_refl _⟩ (fun _ _ _ H locs hP hD hS _ => ?_)
            refine W.eq (g2 := F0 m 33 ls [.int (zb (decide ((1 : Int32) = 0)))]) rfl ?_
            refine zr_val (v' := .int 0) (congrArg Value.int (by decide)) ?_
            have e_ : mf_pour m_sort m_trayMany m_trays fr place to_ at_ many = (false, 1, m_trays) := by rw [mf_pour, if_pos c_1, if_pos c_3, if_neg c_5, if_neg c_7, if_neg c_9]
            exact zr_mz hx hb hr hlocks hP hD hS dX7_pour_33 rfl (by rw [e_]; rfl) (by rw [e_]) trivial
def mf_four (tp : Nat) (m_tape : Nat → Int32) (v : Int32) : Nat × (Nat → Int32) :=
  (tp + 4, upd (upd (upd (upd m_tape tp (vp_nar .byte ((v >>> (24 &&& 31)).toInt8.toInt32))) (tp + 1) (vp_nar .byte ((v >>> (16 &&& 31)).toInt8.toInt32))) (tp + 2) (vp_nar .byte ((v >>> (8 &&& 31)).toInt8.toInt32))) (tp + 3) (vp_nar .byte ((v >>> (0 &&& 31)).toInt8.toInt32)))
theorem hd_X7_four : yX7_four.cls = RX7 ∧ yX7_four.cls ≠ "java/lang/invoke/MethodHandle" ∧ yX7_four.cls ≠ "java/lang/invoke/VarHandle" ∧ (parseMethodDescriptor yX7_four.desc).map (fun d => d.parameters.length) = some 1 := by decide +kernel
set_option maxHeartbeats 4000000 in
set_option maxRecDepth 100000 in
theorem mt_mf_four (l : Launch) (G : zG) (ad : Nat → Nat) (m_status : Int32) (m_top : Int64) (m_bottom : Int64) (tp : Nat) (m_size : Int32) (m_token : Int32) (m_from : Int32) (m_end : Int32) (m_value : Int32) (m_faultKind : Int32) (m_faultPlace : Int32) (m_faults : Int32) (m_seen : Int32) (m_depth : Int32) (m_counted : Int32) (m_lead : Int32) (m_round : Int32) (m_tried : Int32) (m_triedMany : Int32) (m_drawn : Int32) (m_ranSteps : Int32) (m_isTold : Bool) (m_marks : Int32) (m_at : Nat → Int32) (m_names : Nat → Int64) (m_sort : Nat → Int32) (m_trayMany : Nat → Int32) (m_trays : Nat → Int64) (m_tape : Nat → Int32) (m_text : Nat → Int32) (m_opened : Nat → Int32) (m_beside : Nat → Int32) (m_then : Nat → Int32) (m_ways : Nat → Int64) (m_further : Nat → Int64) (m_canBe : Nat → Int32) (m_loops : Nat → Int32) (m_ran : Nat → Int32) (m_told0 : Nat → Int32) (v : Int32) (htp : tp + 4 ≤ 900) (sz : Nat) : Met l yX7_four (ws_ yX7_four cX7_four 3 none) (zR 1 0 0) (zPm G sz [.ref (ad 0), .int v] (mW G ad m_status m_top m_bottom (nI tp) m_size m_token m_from m_end m_value m_faultKind m_faultPlace m_faults m_seen m_depth m_counted m_lead m_round m_tried m_triedMany m_drawn m_ranSteps m_isTold m_marks m_at m_names m_sort m_trayMany m_trays m_tape m_text m_opened m_beside m_then m_ways m_further m_canBe m_loops m_ran m_told0)) (zQm G (True) none (mW G ad m_status m_top m_bottom (nI ((mf_four tp m_tape v).1)) m_size m_token m_from m_end m_value m_faultKind m_faultPlace m_faults m_seen m_depth m_counted m_lead m_round m_tried m_triedMany m_drawn m_ranSteps m_isTold m_marks m_at m_names m_sort m_trayMany m_trays ((mf_four tp m_tape v).2) m_text m_opened m_beside m_then m_ways m_further m_canBe m_loops m_ran m_told0) (va_A (mW G ad m_status m_top m_bottom (nI tp) m_size m_token m_from m_end m_value m_faultKind m_faultPlace m_faults m_seen m_depth m_counted m_lead m_round m_tried m_triedMany m_drawn m_ranSteps m_isTold m_marks m_at m_names m_sort m_trayMany m_trays m_tape m_text m_opened m_beside m_then m_ways m_further m_canBe m_loops m_ran m_told0) sz)) 0 0 (va_A (mW G ad m_status m_top m_bottom (nI tp) m_size m_token m_from m_end m_value m_faultKind m_faultPlace m_faults m_seen m_depth m_counted m_lead m_round m_tried m_triedMany m_drawn m_ranSteps m_isTold m_marks m_at m_names m_sort m_trayMany m_trays m_tape m_text m_opened m_beside m_then m_ways m_further m_canBe m_loops m_ran m_told0) sz) := by
  refine zr_entM (by decide) (Nat.le_of_ble_eq_true rfl) ?_
  intro p e s m below meth c ⟨hx, hb, hr, hml, hown, hts, hlocks, hnm⟩ ls hl hP hK A hE hA hD hS
  have hown : s.vm.findClass RX7 = some m.cls := hown
  have hl : lv_has ls 3 [(0, .ref (ad 0)), (1, .int v)] := hl
  obtain ⟨H, hH⟩ : ∃ H, H = s.heap := ⟨_, rfl⟩
  obtain ⟨locs, hlo⟩ : ∃ L : List Loc, L = [] := ⟨_, rfl⟩
  rw [← hH] at hP
  have hS : va_S A s.heap H locs := by rw [hH, hlo]; exact va_S.rf
  have hgo : W p l e (zR 1 0 0) s m ([.ref (ad 0), .int v] : List Value).toArray below meth c H locs 0 0 (MQ below (zQm G (True) none (mW G ad m_status m_top m_bottom (nI ((mf_four tp m_tape v).1)) m_size m_token m_from m_end m_value m_faultKind m_faultPlace m_faults m_seen m_depth m_counted m_lead m_round m_tried m_triedMany m_drawn m_ranSteps m_isTold m_marks m_at m_names m_sort m_trayMany m_trays ((mf_four tp m_tape v).2) m_text m_opened m_beside m_then m_ways m_further m_canBe m_loops m_ran m_told0) A) ([.ref (ad 0), .int v] : List Value).toArray s 0 0 A) (F0 m 0 ls []) := ?_
  · rw [hH, hlo] at hgo; exact hgo
  clear hH hlo
  refine lv_bipush (v := 24) hx hb dX7_four_0 (by decide) ?_
  refine lv_istore_n (lv' := [(2, .int 24), (0, .ref (ad 0)), (1, .int v)]) hx hb dX7_four_2 rfl hl (by decide) rfl (fun ls hl => ?_)
  refine lv_iload_n hx hb dX7_four_3 rfl (lv_at hl 0 rfl) ?_
  refine lv_if_lt (tgt := 36) hx hb dX7_four_4 (by decide) (fun z => absurd z (by decide)) (fun _ => ?_)
  refine lv_aload_n hx hb dX7_four_7 rfl (lv_at hl 1 rfl) ?_
  refine va_get (D := G.1) (ci := 7) (v := .ref (ad 6)) (C := RX7) (T := TX7) (N := 39) hx hb hts in_X7 hown hK.1 hP 0 rfl rfl 8 (Nat.le_of_ble_eq_true rfl) (hts _ q1475) (fun _ h => h) rfl dX7_four_8 ?_
  refine lv_aload_n hx hb dX7_four_11 rfl (lv_at hl 1 rfl) ?_
  refine va_get (D := G.1) (ci := 7) (v := .int (nI tp)) (C := RX7) (T := TX7) (N := 39) hx hb hts in_X7 hown hK.1 hP 0 rfl rfl 10 (Nat.le_of_ble_eq_true rfl) (hts _ q1477) (fun _ h => h) rfl dX7_four_12 ?_
  refine lv_iload_n hx hb dX7_four_15 rfl (lv_at hl 2 rfl) ?_
  refine lv_iload_n hx hb dX7_four_16 rfl (lv_at hl 0 rfl) ?_
  refine lv_ishr hx hb dX7_four_17 ?_
  refine lv_i2b hx hb dX7_four_18 rfl ?_
  refine zr_bast tp (ws' := (mW G ad m_status m_top m_bottom (nI tp) m_size m_token m_from m_end m_value m_faultKind m_faultPlace m_faults m_seen m_depth m_counted m_lead m_round m_tried m_triedMany m_drawn m_ranSteps m_isTold m_marks m_at m_names m_sort m_trayMany m_trays (upd m_tape tp (vp_nar .byte ((v >>> (24 &&& 31)).toInt8.toInt32))) m_text m_opened m_beside m_then m_ways m_further m_canBe m_loops m_ran m_told0)) hx hb hK hP hD hS 6 rfl rfl (Nat.le_of_ble_eq_true rfl) rfl (by omega) rfl dX7_four_19 (fun H locs hP hD hS => ?_)
  refine lv_aload_n hx hb dX7_four_20 rfl (lv_at hl 1 rfl) ?_
  refine lv_dup hx hb dX7_four_21 rfl ?_
  refine va_get (D := G.1) (ci := 7) (v := .int (nI tp)) (C := RX7) (T := TX7) (N := 39) hx hb hts in_X7 hown hK.1 hP 0 rfl rfl 10 (Nat.le_of_ble_eq_true rfl) (hts _ q1477) (fun _ h => h) rfl dX7_four_22 ?_
  refine lv_iconst (v := 1) hx hb dX7_four_25 (by decide) ?_
  refine zr_iaddN tp 1 hx hb dX7_four_26 ?_
  refine va_put (D := G.1) (ci := 7) (v := .int (nI (tp + 1))) (ty := .int) (C := RX7) (T := TX7) (N := 39) hx hb hts in_X7 tyX7 tyX7_ok nmX7 hown hK.1 hP hD hS 0 rfl rfl 10 (Nat.le_of_ble_eq_true rfl) (hts _ q1477) (fun _ h => h) rfl (tyX7_ok 10 (Nat.le_of_ble_eq_true rfl)) rfl rfl (Nat.le_of_ble_eq_true rfl) dX7_four_27 (fun H locs hP hD hS => ?_)
  have hP : va_P G.1 zcl (mW G ad m_status m_top m_bottom (nI (tp + 1)) m_size m_token m_from m_end m_value m_faultKind m_faultPlace m_faults m_seen m_depth m_counted m_lead m_round m_tried m_triedMany m_drawn m_ranSteps m_isTold m_marks m_at m_names m_sort m_trayMany m_trays (upd m_tape tp (vp_nar .byte ((v >>> (24 &&& 31)).toInt8.toInt32))) m_text m_opened m_beside m_then m_ways m_further m_canBe m_loops m_ran m_told0) H := hP
  have hD : va_D A (mW G ad m_status m_top m_bottom (nI (tp + 1)) m_size m_token m_from m_end m_value m_faultKind m_faultPlace m_faults m_seen m_depth m_counted m_lead m_round m_tried m_triedMany m_drawn m_ranSteps m_isTold m_marks m_at m_names m_sort m_trayMany m_trays (upd m_tape tp (vp_nar .byte ((v >>> (24 &&& 31)).toInt8.toInt32))) m_text m_opened m_beside m_then m_ways m_further m_canBe m_loops m_ran m_told0) := hD
  refine lv_iinc (v := 16) (lv' := [(2, .int 16), (0, .ref (ad 0)), (1, .int v)]) hx hb dX7_four_30 hl (k := 0) rfl (by decide) (by decide) rfl (fun ls hl => ?_)
  refine lv_goto (tgt := 3) hx hb dX7_four_33 (by decide) ?_
  refine lv_iload_n hx hb dX7_four_3 rfl (lv_at hl 0 rfl) ?_
  refine lv_if_lt (tgt := 36) hx hb dX7_four_4 (by decide) (fun z => absurd z (by decide)) (fun _ => ?_)
  refine lv_aload_n hx hb dX7_four_7 rfl (lv_at hl 1 rfl) ?_
  refine va_get (D := G.1) (ci := 7) (v := .ref (ad 6)) (C := RX7) (T := TX7) (N := 39) hx hb hts in_X7 hown hK.1 hP 0 rfl rfl 8 (Nat.le_of_ble_eq_true rfl) (hts _ q1475) (fun _ h => h) rfl dX7_four_8 ?_
  refine lv_aload_n hx hb dX7_four_11 rfl (lv_at hl 1 rfl) ?_
  refine va_get (D := G.1) (ci := 7) (v := .int (nI (tp + 1))) (C := RX7) (T := TX7) (N := 39) hx hb hts in_X7 hown hK.1 hP 0 rfl rfl 10 (Nat.le_of_ble_eq_true rfl) (hts _ q1477) (fun _ h => h) rfl dX7_four_12 ?_
  refine lv_iload_n hx hb dX7_four_15 rfl (lv_at hl 2 rfl) ?_
  refine lv_iload_n hx hb dX7_four_16 rfl (lv_at hl 0 rfl) ?_
  refine lv_ishr hx hb dX7_four_17 ?_
  refine lv_i2b hx hb dX7_four_18 rfl ?_
  refine zr_bast (tp + 1) (ws' := (mW G ad m_status m_top m_bottom (nI (tp + 1)) m_size m_token m_from m_end m_value m_faultKind m_faultPlace m_faults m_seen m_depth m_counted m_lead m_round m_tried m_triedMany m_drawn m_ranSteps m_isTold m_marks m_at m_names m_sort m_trayMany m_trays (upd (upd m_tape tp (vp_nar .byte ((v >>> (24 &&& 31)).toInt8.toInt32))) (tp + 1) (vp_nar .byte ((v >>> (16 &&& 31)).toInt8.toInt32))) m_text m_opened m_beside m_then m_ways m_further m_canBe m_loops m_ran m_told0)) hx hb hK hP hD hS 6 rfl rfl (Nat.le_of_ble_eq_true rfl) rfl (by omega) rfl dX7_four_19 (fun H locs hP hD hS => ?_)
  refine lv_aload_n hx hb dX7_four_20 rfl (lv_at hl 1 rfl) ?_
  refine lv_dup hx hb dX7_four_21 rfl ?_
  refine va_get (D := G.1) (ci := 7) (v := .int (nI (tp + 1))) (C := RX7) (T := TX7) (N := 39) hx hb hts in_X7 hown hK.1 hP 0 rfl rfl 10 (Nat.le_of_ble_eq_true rfl) (hts _ q1477) (fun _ h => h) rfl dX7_four_22 ?_
  refine lv_iconst (v := 1) hx hb dX7_four_25 (by decide) ?_
  refine zr_iaddN (tp + 1) 1 hx hb dX7_four_26 ?_
  refine zr_val (v' := .int (nI (tp + 2))) (by rfl) ?_
  refine va_put (D := G.1) (ci := 7) (v := .int (nI (tp + 2))) (ty := .int) (C := RX7) (T := TX7) (N := 39) hx hb hts in_X7 tyX7 tyX7_ok nmX7 hown hK.1 hP hD hS 0 rfl rfl 10 (Nat.le_of_ble_eq_true rfl) (hts _ q1477) (fun _ h => h) rfl (tyX7_ok 10 (Nat.le_of_ble_eq_true rfl)) rfl rfl (Nat.le_of_ble_eq_true rfl) dX7_four_27 (fun H locs hP hD hS => ?_)
  have hP : va_P G.1 zcl (mW G ad m_status m_top m_bottom (nI (tp + 2)) m_size m_token m_from m_end m_value m_faultKind m_faultPlace m_faults m_seen m_depth m_counted m_lead m_round m_tried m_triedMany m_drawn m_ranSteps m_isTold m_marks m_at m_names m_sort m_trayMany m_trays (upd (upd m_tape tp (vp_nar .byte ((v >>> (24 &&& 31)).toInt8.toInt32))) (tp + 1) (vp_nar .byte ((v >>> (16 &&& 31)).toInt8.toInt32))) m_text m_opened m_beside m_then m_ways m_further m_canBe m_loops m_ran m_told0) H := hP
  have hD : va_D A (mW G ad m_status m_top m_bottom (nI (tp + 2)) m_size m_token m_from m_end m_value m_faultKind m_faultPlace m_faults m_seen m_depth m_counted m_lead m_round m_tried m_triedMany m_drawn m_ranSteps m_isTold m_marks m_at m_names m_sort m_trayMany m_trays (upd (upd m_tape tp (vp_nar .byte ((v >>> (24 &&& 31)).toInt8.toInt32))) (tp + 1) (vp_nar .byte ((v >>> (16 &&& 31)).toInt8.toInt32))) m_text m_opened m_beside m_then m_ways m_further m_canBe m_loops m_ran m_told0) := hD
  refine lv_iinc (v := 8) (lv' := [(2, .int 8), (0, .ref (ad 0)), (1, .int v)]) hx hb dX7_four_30 hl (k := 0) rfl (by decide) (by decide) rfl (fun ls hl => ?_)
  refine lv_goto (tgt := 3) hx hb dX7_four_33 (by decide) ?_
  refine lv_iload_n hx hb dX7_four_3 rfl (lv_at hl 0 rfl) ?_
  refine lv_if_lt (tgt := 36) hx hb dX7_four_4 (by decide) (fun z => absurd z (by decide)) (fun _ => ?_)
  refine lv_aload_n hx hb dX7_four_7 rfl (lv_at hl 1 rfl) ?_
  refine va_get (D := G.1) (ci := 7) (v := .ref (ad 6)) (C := RX7) (T := TX7) (N := 39) hx hb hts in_X7 hown hK.1 hP 0 rfl rfl 8 (Nat.le_of_ble_eq_true rfl) (hts _ q1475) (fun _ h => h) rfl dX7_four_8 ?_
  refine lv_aload_n hx hb dX7_four_11 rfl (lv_at hl 1 rfl) ?_
  refine va_get (D := G.1) (ci := 7) (v := .int (nI (tp + 2))) (C := RX7) (T := TX7) (N := 39) hx hb hts in_X7 hown hK.1 hP 0 rfl rfl 10 (Nat.le_of_ble_eq_true rfl) (hts _ q1477) (fun _ h => h) rfl dX7_four_12 ?_
  refine lv_iload_n hx hb dX7_four_15 rfl (lv_at hl 2 rfl) ?_
  refine lv_iload_n hx hb dX7_four_16 rfl (lv_at hl 0 rfl) ?_
  refine lv_ishr hx hb dX7_four_17 ?_
  refine lv_i2b hx hb dX7_four_18 rfl ?_
  refine zr_bast (tp + 2) (ws' := (mW G ad m_status m_top m_bottom (nI (tp + 2)) m_size m_token m_from m_end m_value m_faultKind m_faultPlace m_faults m_seen m_depth m_counted m_lead m_round m_tried m_triedMany m_drawn m_ranSteps m_isTold m_marks m_at m_names m_sort m_trayMany m_trays (upd (upd (upd m_tape tp (vp_nar .byte ((v >>> (24 &&& 31)).toInt8.toInt32))) (tp + 1) (vp_nar .byte ((v >>> (16 &&& 31)).toInt8.toInt32))) (tp + 2) (vp_nar .byte ((v >>> (8 &&& 31)).toInt8.toInt32))) m_text m_opened m_beside m_then m_ways m_further m_canBe m_loops m_ran m_told0)) hx hb hK hP hD hS 6 rfl rfl (Nat.le_of_ble_eq_true rfl) rfl (by omega) rfl dX7_four_19 (fun H locs hP hD hS => ?_)
  refine lv_aload_n hx hb dX7_four_20 rfl (lv_at hl 1 rfl) ?_
  refine lv_dup hx hb dX7_four_21 rfl ?_
  refine va_get (D := G.1) (ci := 7) (v := .int (nI (tp + 2))) (C := RX7) (T := TX7) (N := 39) hx hb hts in_X7 hown hK.1 hP 0 rfl rfl 10 (Nat.le_of_ble_eq_true rfl) (hts _ q1477) (fun _ h => h) rfl dX7_four_22 ?_
  refine lv_iconst (v := 1) hx hb dX7_four_25 (by decide) ?_
  refine zr_iaddN (tp + 2) 1 hx hb dX7_four_26 ?_
  refine zr_val (v' := .int (nI (tp + 3))) (by rfl) ?_
  refine va_put (D := G.1) (ci := 7) (v := .int (nI (tp + 3))) (ty := .int) (C := RX7) (T := TX7) (N := 39) hx hb hts in_X7 tyX7 tyX7_ok nmX7 hown hK.1 hP hD hS 0 rfl rfl 10 (Nat.le_of_ble_eq_true rfl) (hts _ q1477) (fun _ h => h) rfl (tyX7_ok 10 (Nat.le_of_ble_eq_true rfl)) rfl rfl (Nat.le_of_ble_eq_true rfl) dX7_four_27 (fun H locs hP hD hS => ?_)
  have hP : va_P G.1 zcl (mW G ad m_status m_top m_bottom (nI (tp + 3)) m_size m_token m_from m_end m_value m_faultKind m_faultPlace m_faults m_seen m_depth m_counted m_lead m_round m_tried m_triedMany m_drawn m_ranSteps m_isTold m_marks m_at m_names m_sort m_trayMany m_trays (upd (upd (upd m_tape tp (vp_nar .byte ((v >>> (24 &&& 31)).toInt8.toInt32))) (tp + 1) (vp_nar .byte ((v >>> (16 &&& 31)).toInt8.toInt32))) (tp + 2) (vp_nar .byte ((v >>> (8 &&& 31)).toInt8.toInt32))) m_text m_opened m_beside m_then m_ways m_further m_canBe m_loops m_ran m_told0) H := hP
  have hD : va_D A (mW G ad m_status m_top m_bottom (nI (tp + 3)) m_size m_token m_from m_end m_value m_faultKind m_faultPlace m_faults m_seen m_depth m_counted m_lead m_round m_tried m_triedMany m_drawn m_ranSteps m_isTold m_marks m_at m_names m_sort m_trayMany m_trays (upd (upd (upd m_tape tp (vp_nar .byte ((v >>> (24 &&& 31)).toInt8.toInt32))) (tp + 1) (vp_nar .byte ((v >>> (16 &&& 31)).toInt8.toInt32))) (tp + 2) (vp_nar .byte ((v >>> (8 &&& 31)).toInt8.toInt32))) m_text m_opened m_beside m_then m_ways m_further m_canBe m_loops m_ran m_told0) := hD
  refine lv_iinc (v := 0) (lv' := [(2, .int 0), (0, .ref (ad 0)), (1, .int v)]) hx hb dX7_four_30 hl (k := 0) rfl (by decide) (by decide) rfl (fun ls hl => ?_)
  refine lv_goto (tgt := 3) hx hb dX7_four_33 (by decide) ?_
  refine lv_iload_n hx hb dX7_four_3 rfl (lv_at hl 0 rfl) ?_
  refine lv_if_lt (tgt := 36) hx hb dX7_four_4 (by decide) (fun z => absurd z (by decide)) (fun _ => ?_)
  refine lv_aload_n hx hb dX7_four_7 rfl (lv_at hl 1 rfl) ?_
  refine va_get (D := G.1) (ci := 7) (v := .ref (ad 6)) (C := RX7) (T := TX7) (N := 39) hx hb hts in_X7 hown hK.1 hP 0 rfl rfl 8 (Nat.le_of_ble_eq_true rfl) (hts _ q1475) (fun _ h => h) rfl dX7_four_8 ?_
  refine lv_aload_n hx hb dX7_four_11 rfl (lv_at hl 1 rfl) ?_
  refine va_get (D := G.1) (ci := 7) (v := .int (nI (tp + 3))) (C := RX7) (T := TX7) (N := 39) hx hb hts in_X7 hown hK.1 hP 0 rfl rfl 10 (Nat.le_of_ble_eq_true rfl) (hts _ q1477) (fun _ h => h) rfl dX7_four_12 ?_
  refine lv_iload_n hx hb dX7_four_15 rfl (lv_at hl 2 rfl) ?_
  refine lv_iload_n hx hb dX7_four_16 rfl (lv_at hl 0 rfl) ?_
  refine lv_ishr hx hb dX7_four_17 ?_
  refine lv_i2b hx hb dX7_four_18 rfl ?_
  refine zr_bast (tp + 3) (ws' := (mW G ad m_status m_top m_bottom (nI (tp + 3)) m_size m_token m_from m_end m_value m_faultKind m_faultPlace m_faults m_seen m_depth m_counted m_lead m_round m_tried m_triedMany m_drawn m_ranSteps m_isTold m_marks m_at m_names m_sort m_trayMany m_trays (upd (upd (upd (upd m_tape tp (vp_nar .byte ((v >>> (24 &&& 31)).toInt8.toInt32))) (tp + 1) (vp_nar .byte ((v >>> (16 &&& 31)).toInt8.toInt32))) (tp + 2) (vp_nar .byte ((v >>> (8 &&& 31)).toInt8.toInt32))) (tp + 3) (vp_nar .byte ((v >>> (0 &&& 31)).toInt8.toInt32))) m_text m_opened m_beside m_then m_ways m_further m_canBe m_loops m_ran m_told0)) hx hb hK hP hD hS 6 rfl rfl (Nat.le_of_ble_eq_true rfl) rfl (by omega) rfl dX7_four_19 (fun H locs hP hD hS => ?_)
  refine lv_aload_n hx hb dX7_four_20 rfl (lv_at hl 1 rfl) ?_
  refine lv_dup hx hb dX7_four_21 rfl ?_
  refine va_get (D := G.1) (ci := 7) (v := .int (nI (tp + 3))) (C := RX7) (T := TX7) (N := 39) hx hb hts in_X7 hown hK.1 hP 0 rfl rfl 10 (Nat.le_of_ble_eq_true rfl) (hts _ q1477) (fun _ h => h) rfl dX7_four_22 ?_
  refine lv_iconst (v := 1) hx hb dX7_four_25 (by decide) ?_
  refine zr_iaddN (tp + 3) 1 hx hb dX7_four_26 ?_
  refine zr_val (v' := .int (nI (tp + 4))) (by rfl) ?_
  refine va_put (D := G.1) (ci := 7) (v := .int (nI (tp + 4))) (ty := .int) (C := RX7) (T := TX7) (N := 39) hx hb hts in_X7 tyX7 tyX7_ok nmX7 hown hK.1 hP hD hS 0 rfl rfl 10 (Nat.le_of_ble_eq_true rfl) (hts _ q1477) (fun _ h => h) rfl (tyX7_ok 10 (Nat.le_of_ble_eq_true rfl)) rfl rfl (Nat.le_of_ble_eq_true rfl) dX7_four_27 (fun H locs hP hD hS => ?_)
  have hP : va_P G.1 zcl (mW G ad m_status m_top m_bottom (nI (tp + 4)) m_size m_token m_from m_end m_value m_faultKind m_faultPlace m_faults m_seen m_depth m_counted m_lead m_round m_tried m_triedMany m_drawn m_ranSteps m_isTold m_marks m_at m_names m_sort m_trayMany m_trays (upd (upd (upd (upd m_tape tp (vp_nar .byte ((v >>> (24 &&& 31)).toInt8.toInt32))) (tp + 1) (vp_nar .byte ((v >>> (16 &&& 31)).toInt8.toInt32))) (tp + 2) (vp_nar .byte ((v >>> (8 &&& 31)).toInt8.toInt32))) (tp + 3) (vp_nar .byte ((v >>> (0 &&& 31)).toInt8.toInt32))) m_text m_opened m_beside m_then m_ways m_further m_canBe m_loops m_ran m_told0) H := hP
  have hD : va_D A (mW G ad m_status m_top m_bottom (nI (tp + 4)) m_size m_token m_from m_end m_value m_faultKind m_faultPlace m_faults m_seen m_depth m_counted m_lead m_round m_tried m_triedMany m_drawn m_ranSteps m_isTold m_marks m_at m_names m_sort m_trayMany m_trays (upd (upd (upd (upd m_tape tp (vp_nar .byte ((v >>> (24 &&& 31)).toInt8.toInt32))) (tp + 1) (vp_nar .byte ((v >>> (16 &&& 31)).toInt8.toInt32))) (tp + 2) (vp_nar .byte ((v >>> (8 &&& 31)).toInt8.toInt32))) (tp + 3) (vp_nar .byte ((v >>> (0 &&& 31)).toInt8.toInt32))) m_text m_opened m_beside m_then m_ways m_further m_canBe m_loops m_ran m_told0) := hD
  refine lv_iinc (v := (-8)) (lv' := [(2, .int (-8)), (0, .ref (ad 0)), (1, .int v)]) hx hb dX7_four_30 hl (k := 0) rfl (by decide) (by decide) rfl (fun ls hl => ?_)
  refine lv_goto (tgt := 3) hx hb dX7_four_33 (by decide) ?_
  refine lv_iload_n hx hb dX7_four_3 rfl (lv_at hl 0 rfl) ?_
  refine lv_if_lt (tgt := 36) hx hb dX7_four_4 (by decide) (fun _ => ?_) (fun z => absurd (by decide) z)
  have e_ : mf_four tp m_tape v = (tp + 4, upd (upd (upd (upd m_tape tp (vp_nar .byte ((v >>> (24 &&& 31)).toInt8.toInt32))) (tp + 1) (vp_nar .byte ((v >>> (16 &&& 31)).toInt8.toInt32))) (tp + 2) (vp_nar .byte ((v >>> (8 &&& 31)).toInt8.toInt32))) (tp + 3) (vp_nar .byte ((v >>> (0 &&& 31)).toInt8.toInt32))) := by rw [mf_four]
  exact zr_mv hx hb hr hlocks hP hD hS dX7_four_36 rfl (by rw [e_]) trivial
def mf_feed (tp : Nat) (m_tape : Nat → Int32) (fa : Int32) (fb : Int32) (fc : Int32) (fd : Int32) (fe : Int32) : Int32 × Nat × (Nat → Int32) :=
  (if (tp + 20) ≤ 900 then
    zlet (mf_four tp m_tape fa) (fun t_2 =>
    zlet (mf_four t_2.1 t_2.2 fb) (fun t_3 =>
    zlet (mf_four t_3.1 t_3.2 fc) (fun t_4 =>
    zlet (mf_four t_4.1 t_4.2 fd) (fun t_5 =>
    zlet (mf_four t_5.1 t_5.2 fe) (fun t_6 =>
    (nI t_6.1, t_6.1, t_6.2))))))
  else
    ((-1), tp, m_tape))
theorem hd_X7_feed : yX7_feed.cls = RX7 ∧ yX7_feed.cls ≠ "java/lang/invoke/MethodHandle" ∧ yX7_feed.cls ≠ "java/lang/invoke/VarHandle" ∧ (parseMethodDescriptor yX7_feed.desc).map (fun d => d.parameters.length) = some 5 := by decide +kernel
set_option maxHeartbeats 4000000 in
set_option maxRecDepth 100000 in
theorem mt_mf_feed (l : Launch) (G : zG) (ad : Nat → Nat) (m_status : Int32) (m_top : Int64) (m_bottom : Int64) (tp : Nat) (m_size : Int32) (m_token : Int32) (m_from : Int32) (m_end : Int32) (m_value : Int32) (m_faultKind : Int32) (m_faultPlace : Int32) (m_faults : Int32) (m_seen : Int32) (m_depth : Int32) (m_counted : Int32) (m_lead : Int32) (m_round : Int32) (m_tried : Int32) (m_triedMany : Int32) (m_drawn : Int32) (m_ranSteps : Int32) (m_isTold : Bool) (m_marks : Int32) (m_at : Nat → Int32) (m_names : Nat → Int64) (m_sort : Nat → Int32) (m_trayMany : Nat → Int32) (m_trays : Nat → Int64) (m_tape : Nat → Int32) (m_text : Nat → Int32) (m_opened : Nat → Int32) (m_beside : Nat → Int32) (m_then : Nat → Int32) (m_ways : Nat → Int64) (m_further : Nat → Int64) (m_canBe : Nat → Int32) (m_loops : Nat → Int32) (m_ran : Nat → Int32) (m_told0 : Nat → Int32) (fa : Int32) (fb : Int32) (fc : Int32) (fd : Int32) (fe : Int32) (htp : tp ≤ 900) (sz : Nat) : Met l yX7_feed (ws_ yX7_feed cX7_feed 6 (some .int)) (zR 2 0 0) (zPm G sz [.ref (ad 0), .int fa, .int fb, .int fc, .int fd, .int fe] (mW G ad m_status m_top m_bottom (nI tp) m_size m_token m_from m_end m_value m_faultKind m_faultPlace m_faults m_seen m_depth m_counted m_lead m_round m_tried m_triedMany m_drawn m_ranSteps m_isTold m_marks m_at m_names m_sort m_trayMany m_trays m_tape m_text m_opened m_beside m_then m_ways m_further m_canBe m_loops m_ran m_told0)) (zQm G (True) (some (.int ((mf_feed tp m_tape fa fb fc fd fe).1))) (mW G ad m_status m_top m_bottom (nI ((mf_feed tp m_tape fa fb fc fd fe).2.1)) m_size m_token m_from m_end m_value m_faultKind m_faultPlace m_faults m_seen m_depth m_counted m_lead m_round m_tried m_triedMany m_drawn m_ranSteps m_isTold m_marks m_at m_names m_sort m_trayMany m_trays ((mf_feed tp m_tape fa fb fc fd fe).2.2) m_text m_opened m_beside m_then m_ways m_further m_canBe m_loops m_ran m_told0) (va_A (mW G ad m_status m_top m_bottom (nI tp) m_size m_token m_from m_end m_value m_faultKind m_faultPlace m_faults m_seen m_depth m_counted m_lead m_round m_tried m_triedMany m_drawn m_ranSteps m_isTold m_marks m_at m_names m_sort m_trayMany m_trays m_tape m_text m_opened m_beside m_then m_ways m_further m_canBe m_loops m_ran m_told0) sz)) 0 0 (va_A (mW G ad m_status m_top m_bottom (nI tp) m_size m_token m_from m_end m_value m_faultKind m_faultPlace m_faults m_seen m_depth m_counted m_lead m_round m_tried m_triedMany m_drawn m_ranSteps m_isTold m_marks m_at m_names m_sort m_trayMany m_trays m_tape m_text m_opened m_beside m_then m_ways m_further m_canBe m_loops m_ran m_told0) sz) := by
  refine zr_entM (by decide) (Nat.le_of_ble_eq_true rfl) ?_
  intro p e s m below meth c ⟨hx, hb, hr, hml, hown, hts, hlocks, hnm⟩ ls hl hP hK A hE hA hD hS
  have hown : s.vm.findClass RX7 = some m.cls := hown
  have hl : lv_has ls 6 [(0, .ref (ad 0)), (1, .int fa), (2, .int fb), (3, .int fc), (4, .int fd), (5, .int fe)] := hl
  obtain ⟨H, hH⟩ : ∃ H, H = s.heap := ⟨_, rfl⟩
  obtain ⟨locs, hlo⟩ : ∃ L : List Loc, L = [] := ⟨_, rfl⟩
  rw [← hH] at hP
  have hS : va_S A s.heap H locs := by rw [hH, hlo]; exact va_S.rf
  have hgo : W p l e (zR 2 0 0) s m ([.ref (ad 0), .int fa, .int fb, .int fc, .int fd, .int fe] : List Value).toArray below meth c H locs 0 0 (MQ below (zQm G (True) (some (.int ((mf_feed tp m_tape fa fb fc fd fe).1))) (mW G ad m_status m_top m_bottom (nI ((mf_feed tp m_tape fa fb fc fd fe).2.1)) m_size m_token m_from m_end m_value m_faultKind m_faultPlace m_faults m_seen m_depth m_counted m_lead m_round m_tried m_triedMany m_drawn m_ranSteps m_isTold m_marks m_at m_names m_sort m_trayMany m_trays ((mf_feed tp m_tape fa fb fc fd fe).2.2) m_text m_opened m_beside m_then m_ways m_further m_canBe m_loops m_ran m_told0) A) ([.ref (ad 0), .int fa, .int fb, .int fc, .int fd, .int fe] : List Value).toArray s 0 0 A) (F0 m 0 ls []) := ?_
  · rw [hH, hlo] at hgo; exact hgo
  clear hH hlo
  refine lv_aload_n hx hb dX7_feed_0 rfl (lv_at hl 0 rfl) ?_
  refine va_get (D := G.1) (ci := 7) (v := .int (nI tp)) (C := RX7) (T := TX7) (N := 39) hx hb hts in_X7 hown hK.1 hP 0 rfl rfl 10 (Nat.le_of_ble_eq_true rfl) (hts _ q1477) (fun _ h => h) rfl dX7_feed_1 ?_
  refine lv_bipush (v := 20) hx hb dX7_feed_4 (by decide) ?_
  refine zr_iaddN tp 20 hx hb dX7_feed_6 ?_
  refine lv_sipush (v := 900) hx hb dX7_feed_7 (by decide) ?_
  refine zr_le (tp + 20) 900 (by omega) (by decide) (tgt := 15) hx hb dX7_feed_10 (by decide) (fun c_1 => ?_) (fun c_1 => ?_)
  · refine lv_aload_n hx hb dX7_feed_15 rfl (lv_at hl 0 rfl) ?_
    refine lv_iload_n hx hb dX7_feed_16 rfl (lv_at hl 1 rfl) ?_
    refine zr_muV (F := mf_four tp m_tape fa) (ff := fun t_2 => True) (rr := fun t_2 => none) (w1 := fun t_2 => (mW G ad m_status m_top m_bottom (nI t_2.1) m_size m_token m_from m_end m_value m_faultKind m_faultPlace m_faults m_seen m_depth m_counted m_lead m_round m_tried m_triedMany m_drawn m_ranSteps m_isTold m_marks m_at m_names m_sort m_trayMany m_trays t_2.2 m_text m_opened m_beside m_then m_ways m_further m_canBe m_loops m_ran m_told0)) ⟨hx, hb, hml, hown, hts⟩ (mt_mf_four l G ad m_status m_top m_bottom tp m_size m_token m_from m_end m_value m_faultKind m_faultPlace m_faults m_seen m_depth m_counted m_lead m_round m_tried m_triedMany m_drawn m_ranSteps m_isTold m_marks m_at m_names m_sort m_trayMany m_trays m_tape m_text m_opened m_beside m_then m_ways m_further m_canBe m_loops m_ran m_told0 fa (by omega) H.size) (cwV 1 hts (lw_V q1632 q1634 qs62 q144 q1635) rfl rfl rfl hd_X7_four ⟨(Nat.le_of_ble_eq_true rfl), (Nat.le_of_ble_eq_true rfl)⟩) hP hD hS hA hK hE 0 7 rfl rfl rfl hl.1 rfl (Nat.le_of_ble_eq_true rfl) dX7_feed_17 ⟨Nat.le_refl _, Nat.le_refl _⟩ (fun t_2 ht_2 hft_2 H locs hP hD hS _ => ?_)
    refine W.eq (g2 := F0 m 20 ls []) rfl ?_
    have hz_t_2 : t_2.1 = tp + 4 := by rw [← ht_2]; rfl
    refine lv_aload_n hx hb dX7_feed_20 rfl (lv_at hl 0 rfl) ?_
    refine lv_iload_n hx hb dX7_feed_21 rfl (lv_at hl 2 rfl) ?_
    refine zr_muV (F := mf_four t_2.1 t_2.2 fb) (ff := fun t_3 => True) (rr := fun t_3 => none) (w1 := fun t_3 => (mW G ad m_status m_top m_bottom (nI t_3.1) m_size m_token m_from m_end m_value m_faultKind m_faultPlace m_faults m_seen m_depth m_counted m_lead m_round m_tried m_triedMany m_drawn m_ranSteps m_isTold m_marks m_at m_names m_sort m_trayMany m_trays t_3.2 m_text m_opened m_beside m_then m_ways m_further m_canBe m_loops m_ran m_told0)) ⟨hx, hb, hml, hown, hts⟩ (mt_mf_four l G ad m_status m_top m_bottom t_2.1 m_size m_token m_from m_end m_value m_faultKind m_faultPlace m_faults m_seen m_depth m_counted m_lead m_round m_tried m_triedMany m_drawn m_ranSteps m_isTold m_marks m_at m_names m_sort m_trayMany m_trays t_2.2 m_text m_opened m_beside m_then m_ways m_further m_canBe m_loops m_ran m_told0 fb (by omega) H.size) (cwV 1 hts (lw_V q1632 q1634 qs62 q144 q1635) rfl rfl rfl hd_X7_four ⟨(Nat.le_of_ble_eq_true rfl), (Nat.le_of_ble_eq_true rfl)⟩) hP hD hS hA hK hE 0 7 rfl rfl rfl hl.1 rfl (Nat.le_of_ble_eq_true rfl) dX7_feed_22 ⟨Nat.le_refl _, Nat.le_refl _⟩ (fun t_3 ht_3 hft_3 H locs hP hD hS _ => ?_)
    refine W.eq (g2 := F0 m 25 ls []) rfl ?_
    have hz_t_3 : t_3.1 = t_2.1 + 4 := by rw [← ht_3]; rfl
    refine lv_aload_n hx hb dX7_feed_25 rfl (lv_at hl 0 rfl) ?_
    refine lv_iload_n hx hb dX7_feed_26 rfl (lv_at hl 3 rfl) ?_
    refine zr_muV (F := mf_four t_3.1 t_3.2 fc) (ff := fun t_4 => True) (rr := fun t_4 => none) (w1 := fun t_4 => (mW G ad m_status m_top m_bottom (nI t_4.1) m_size m_token m_from m_end m_value m_faultKind m_faultPlace m_faults m_seen m_depth m_counted m_lead m_round m_tried m_triedMany m_drawn m_ranSteps m_isTold m_marks m_at m_names m_sort m_trayMany m_trays t_4.2 m_text m_opened m_beside m_then m_ways m_further m_canBe m_loops m_ran m_told0)) ⟨hx, hb, hml, hown, hts⟩ (mt_mf_four l G ad m_status m_top m_bottom t_3.1 m_size m_token m_from m_end m_value m_faultKind m_faultPlace m_faults m_seen m_depth m_counted m_lead m_round m_tried m_triedMany m_drawn m_ranSteps m_isTold m_marks m_at m_names m_sort m_trayMany m_trays t_3.2 m_text m_opened m_beside m_then m_ways m_further m_canBe m_loops m_ran m_told0 fc (by omega) H.size) (cwV 1 hts (lw_V q1632 q1634 qs62 q144 q1635) rfl rfl rfl hd_X7_four ⟨(Nat.le_of_ble_eq_true rfl), (Nat.le_of_ble_eq_true rfl)⟩) hP hD hS hA hK hE 0 7 rfl rfl rfl hl.1 rfl (Nat.le_of_ble_eq_true rfl) dX7_feed_27 ⟨Nat.le_refl _, Nat.le_refl _⟩ (fun t_4 ht_4 hft_4 H locs hP hD hS _ => ?_)
    refine W.eq (g2 := F0 m 30 ls []) rfl ?_
    have hz_t_4 : t_4.1 = t_3.1 + 4 := by rw [← ht_4]; rfl
    refine lv_aload_n hx hb dX7_feed_30 rfl (lv_at hl 0 rfl) ?_
    refine lv_iload hx hb dX7_feed_31 (lv_at hl 4 rfl) ?_
    refine zr_muV (F := mf_four t_4.1 t_4.2 fd) (ff := fun t_5 => True) (rr := fun t_5 => none) (w1 := fun t_5 => (mW G ad m_status m_top m_bottom (nI t_5.1) m_size m_token m_from m_end m_value m_faultKind m_faultPlace m_faults m_seen m_depth m_counted m_lead m_round m_tried m_triedMany m_drawn m_ranSteps m_isTold m_marks m_at m_names m_sort m_trayMany m_trays t_5.2 m_text m_opened m_beside m_then m_ways m_further m_canBe m_loops m_ran m_told0)) ⟨hx, hb, hml, hown, hts⟩ (mt_mf_four l G ad m_status m_top m_bottom t_4.1 m_size m_token m_from m_end m_value m_faultKind m_faultPlace m_faults m_seen m_depth m_counted m_lead m_round m_tried m_triedMany m_drawn m_ranSteps m_isTold m_marks m_at m_names m_sort m_trayMany m_trays t_4.2 m_text m_opened m_beside m_then m_ways m_further m_canBe m_loops m_ran m_told0 fd (by omega) H.size) (cwV 1 hts (lw_V q1632 q1634 qs62 q144 q1635) rfl rfl rfl hd_X7_four ⟨(Nat.le_of_ble_eq_true rfl), (Nat.le_of_ble_eq_true rfl)⟩) hP hD hS hA hK hE 0 7 rfl rfl rfl hl.1 rfl (Nat.le_of_ble_eq_true rfl) dX7_feed_33 ⟨Nat.le_refl _, Nat.le_refl _⟩ (fun t_5 ht_5 hft_5 H locs hP hD hS _ => ?_)
    refine W.eq (g2 := F0 m 36 ls []) rfl ?_
    have hz_t_5 : t_5.1 = t_4.1 + 4 := by rw [← ht_5]; rfl
    refine lv_aload_n hx hb dX7_feed_36 rfl (lv_at hl 0 rfl) ?_
    refine lv_iload hx hb dX7_feed_37 (lv_at hl 5 rfl) ?_
    refine zr_muV (F := mf_four t_5.1 t_5.2 fe) (ff := fun t_6 => True) (rr := fun t_6 => none) (w1 := fun t_6 => (mW G ad m_status m_top m_bottom (nI t_6.1) m_size m_token m_from m_end m_value m_faultKind m_faultPlace m_faults m_seen m_depth m_counted m_lead m_round m_tried m_triedMany m_drawn m_ranSteps m_isTold m_marks m_at m_names m_sort m_trayMany m_trays t_6.2 m_text m_opened m_beside m_then m_ways m_further m_canBe m_loops m_ran m_told0)) ⟨hx, hb, hml, hown, hts⟩ (mt_mf_four l G ad m_status m_top m_bottom t_5.1 m_size m_token m_from m_end m_value m_faultKind m_faultPlace m_faults m_seen m_depth m_counted m_lead m_round m_tried m_triedMany m_drawn m_ranSteps m_isTold m_marks m_at m_names m_sort m_trayMany m_trays t_5.2 m_text m_opened m_beside m_then m_ways m_further m_canBe m_loops m_ran m_told0 fe (by omega) H.size) (cwV 1 hts (lw_V q1632 q1634 qs62 q144 q1635) rfl rfl rfl hd_X7_four ⟨(Nat.le_of_ble_eq_true rfl), (Nat.le_of_ble_eq_true rfl)⟩) hP hD hS hA hK hE 0 7 rfl rfl rfl hl.1 rfl (Nat.le_of_ble_eq_true rfl) dX7_feed_39 ⟨Nat.le_refl _, Nat.le_refl _⟩ (fun t_6 ht_6 hft_6 H locs hP hD hS _ => ?_)
    refine W.eq (g2 := F0 m 42 ls []) rfl ?_
    refine lv_aload_n hx hb dX7_feed_42 rfl (lv_at hl 0 rfl) ?_
    refine va_get (D := G.1) (ci := 7) (v := .int (nI t_6.1)) (C := RX7) (T := TX7) (N := 39) hx hb hts in_X7 hown hK.1 hP 0 rfl rfl 10 (Nat.le_of_ble_eq_true rfl) (hts _ q1477) (fun _ h => h) rfl dX7_feed_43 ?_
    have e_ : mf_feed tp m_tape fa fb fc fd fe = (nI t_6.1, t_6.1, t_6.2) := by rw [mf_feed, if_pos c_1, zlet_eq ht_2, zlet_eq ht_3, zlet_eq ht_4, zlet_eq ht_5, zlet_eq ht_6]
    exact zr_mi hx hb hr hlocks hP hD hS dX7_feed_46 (by rw [e_])  (by rw [e_]) trivial
  · refine lv_iconst (v := (-1)) hx hb dX7_feed_13 (by decide) ?_
    have e_ : mf_feed tp m_tape fa fb fc fd fe = ((-1), tp, m_tape) := by rw [mf_feed, if_neg c_1]
    exact zr_mi hx hb hr hlocks hP hD hS dX7_feed_14 (by rw [e_])  (by rw [e_]) trivial
def mf_isRule (nr : Nat) (ru : Int32) : Bool :=
  (if ru < 0 then
    false
  else
    (if (nI nr) ≤ ru then
      false
    else
      true))
theorem hd_X7_isRule : yX7_isRule.cls = RX7 ∧ yX7_isRule.cls ≠ "java/lang/invoke/MethodHandle" ∧ yX7_isRule.cls ≠ "java/lang/invoke/VarHandle" ∧ (parseMethodDescriptor yX7_isRule.desc).map (fun d => d.parameters.length) = some 1 := by decide +kernel
set_option maxHeartbeats 4000000 in
set_option maxRecDepth 100000 in
theorem mt_mf_isRule (l : Launch) (G : zG) (ad : Nat → Nat) (m_status : Int32) (m_top : Int64) (m_bottom : Int64) (m_taped : Int32) (m_size : Int32) (m_token : Int32) (m_from : Int32) (m_end : Int32) (m_value : Int32) (m_faultKind : Int32) (m_faultPlace : Int32) (m_faults : Int32) (m_seen : Int32) (m_depth : Int32) (m_counted : Int32) (m_lead : Int32) (m_round : Int32) (m_tried : Int32) (m_triedMany : Int32) (m_drawn : Int32) (m_ranSteps : Int32) (m_isTold : Bool) (m_marks : Int32) (m_at : Nat → Int32) (m_names : Nat → Int64) (m_sort : Nat → Int32) (m_trayMany : Nat → Int32) (m_trays : Nat → Int64) (m_tape : Nat → Int32) (m_text : Nat → Int32) (m_opened : Nat → Int32) (m_beside : Nat → Int32) (m_then : Nat → Int32) (m_ways : Nat → Int64) (m_further : Nat → Int64) (m_canBe : Nat → Int32) (m_loops : Nat → Int32) (m_ran : Nat → Int32) (m_told0 : Nat → Int32) (Wd : Nat) (R : Nat) (nr : Nat) (nc : Nat) (ru : Int32) (hG : mOK m_at Wd R nr nc) : Met l yX7_isRule (ws_ yX7_isRule cX7_isRule 2 (some .boolean)) (zR 1 0 0) (zPo G [.ref (ad 0), .int ru] (mW G ad m_status m_top m_bottom m_taped m_size m_token m_from m_end m_value m_faultKind m_faultPlace m_faults m_seen m_depth m_counted m_lead m_round m_tried m_triedMany m_drawn m_ranSteps m_isTold m_marks m_at m_names m_sort m_trayMany m_trays m_tape m_text m_opened m_beside m_then m_ways m_further m_canBe m_loops m_ran m_told0)) (k2_QcV (.int (zb (mf_isRule nr ru)))) 0 0 (fun _ => False) := by
  refine zr_entO (by decide) (Nat.le_of_ble_eq_true rfl) ?_
  intro p e s m below meth c ⟨hx, hb, hr, hml, hown, hts, hlocks, hnm⟩ ls hl hP hK hE
  have hown : s.vm.findClass RX7 = some m.cls := hown
  have hl : lv_has ls 2 [(0, .ref (ad 0)), (1, .int ru)] := hl
  refine lv_iload_n hx hb dX7_isRule_0 rfl (lv_at hl 1 rfl) ?_
  refine lv_if_lt (tgt := 18) hx hb dX7_isRule_1 (by decide) (fun c_1 => ?_) (fun c_1 => ?_)
  · refine lv_iconst (v := 0) hx hb dX7_isRule_18 (by decide) ?_
    have e_ : mf_isRule nr ru = false := by rw [mf_isRule, if_pos c_1]
    exact zr_oz hx hb hr hlocks dX7_isRule_19 rfl (congrArg (fun z => Value.int (zb z)) e_)
  · refine lv_iload_n hx hb dX7_isRule_4 rfl (lv_at hl 1 rfl) ?_
    refine lv_aload_n hx hb dX7_isRule_5 rfl (lv_at hl 0 rfl) ?_
    refine va_get (D := G.1) (ci := 7) (v := .ref (ad 1)) (C := RX7) (T := TX7) (N := 39) hx hb hts in_X7 hown hK.1 hP 0 rfl rfl 0 (Nat.le_of_ble_eq_true rfl) (hts _ q1467) (fun _ h => h) rfl dX7_isRule_6 ?_
    refine lv_iconst (v := 5) hx hb dX7_isRule_9 (by decide) ?_
    refine zr_iald 5 (v := nI nr) hx hb hK hP 1 rfl rfl (Nat.le_of_ble_eq_true rfl) rfl (by decide) (mOK_nr hG) dX7_isRule_10 ?_
    refine lv_icmp_ge (tgt := 18) hx hb dX7_isRule_11 (by decide) (fun c_2 => ?_) (fun c_2 => ?_)
    · refine lv_iconst (v := 0) hx hb dX7_isRule_18 (by decide) ?_
      have e_ : mf_isRule nr ru = false := by rw [mf_isRule, if_neg c_1, if_pos c_2]
      exact zr_oz hx hb hr hlocks dX7_isRule_19 rfl (congrArg (fun z => Value.int (zb z)) e_)
    · refine lv_iconst (v := 1) hx hb dX7_isRule_14 (by decide) ?_
      refine lv_goto (tgt := 19) hx hb dX7_isRule_15 (by decide) ?_
      have e_ : mf_isRule nr ru = true := by rw [mf_isRule, if_neg c_1, if_neg c_2]
      exact zr_oz hx hb hr hlocks dX7_isRule_19 rfl (congrArg (fun z => Value.int (zb z)) e_)
theorem isRule_t {nr : Nat} {ru : Int32} (hn : nr ≤ 4) (h : mf_isRule nr ru = true) : ¬ ru < 0 ∧ ru.toNatClampNeg < nr := by
  unfold mf_isRule at h
  by_cases h1 : ru < 0
  · rw [if_pos h1] at h; cases h
  · rw [if_neg h1] at h
    by_cases h2 : nI nr ≤ ru
    · rw [if_pos h2] at h; cases h
    · exact ⟨h1, z_nge nr (by omega) h1 h2⟩
def mf_isCitizen (nc : Nat) (ci : Int32) : Bool :=
  (if ci < 0 then
    false
  else
    (if (nI nc) ≤ ci then
      false
    else
      true))
theorem hd_X7_isCitizen : yX7_isCitizen.cls = RX7 ∧ yX7_isCitizen.cls ≠ "java/lang/invoke/MethodHandle" ∧ yX7_isCitizen.cls ≠ "java/lang/invoke/VarHandle" ∧ (parseMethodDescriptor yX7_isCitizen.desc).map (fun d => d.parameters.length) = some 1 := by decide +kernel
set_option maxHeartbeats 4000000 in
set_option maxRecDepth 100000 in
theorem mt_mf_isCitizen (l : Launch) (G : zG) (ad : Nat → Nat) (m_status : Int32) (m_top : Int64) (m_bottom : Int64) (m_taped : Int32) (m_size : Int32) (m_token : Int32) (m_from : Int32) (m_end : Int32) (m_value : Int32) (m_faultKind : Int32) (m_faultPlace : Int32) (m_faults : Int32) (m_seen : Int32) (m_depth : Int32) (m_counted : Int32) (m_lead : Int32) (m_round : Int32) (m_tried : Int32) (m_triedMany : Int32) (m_drawn : Int32) (m_ranSteps : Int32) (m_isTold : Bool) (m_marks : Int32) (m_at : Nat → Int32) (m_names : Nat → Int64) (m_sort : Nat → Int32) (m_trayMany : Nat → Int32) (m_trays : Nat → Int64) (m_tape : Nat → Int32) (m_text : Nat → Int32) (m_opened : Nat → Int32) (m_beside : Nat → Int32) (m_then : Nat → Int32) (m_ways : Nat → Int64) (m_further : Nat → Int64) (m_canBe : Nat → Int32) (m_loops : Nat → Int32) (m_ran : Nat → Int32) (m_told0 : Nat → Int32) (Wd : Nat) (R : Nat) (nr : Nat) (nc : Nat) (ci : Int32) (hG : mOK m_at Wd R nr nc) : Met l yX7_isCitizen (ws_ yX7_isCitizen cX7_isCitizen 2 (some .boolean)) (zR 1 0 0) (zPo G [.ref (ad 0), .int ci] (mW G ad m_status m_top m_bottom m_taped m_size m_token m_from m_end m_value m_faultKind m_faultPlace m_faults m_seen m_depth m_counted m_lead m_round m_tried m_triedMany m_drawn m_ranSteps m_isTold m_marks m_at m_names m_sort m_trayMany m_trays m_tape m_text m_opened m_beside m_then m_ways m_further m_canBe m_loops m_ran m_told0)) (k2_QcV (.int (zb (mf_isCitizen nc ci)))) 0 0 (fun _ => False) := by
  refine zr_entO (by decide) (Nat.le_of_ble_eq_true rfl) ?_
  intro p e s m below meth c ⟨hx, hb, hr, hml, hown, hts, hlocks, hnm⟩ ls hl hP hK hE
  have hown : s.vm.findClass RX7 = some m.cls := hown
  have hl : lv_has ls 2 [(0, .ref (ad 0)), (1, .int ci)] := hl
  refine lv_iload_n hx hb dX7_isCitizen_0 rfl (lv_at hl 1 rfl) ?_
  refine lv_if_lt (tgt := 19) hx hb dX7_isCitizen_1 (by decide) (fun c_1 => ?_) (fun c_1 => ?_)
  · refine lv_iconst (v := 0) hx hb dX7_isCitizen_19 (by decide) ?_
    have e_ : mf_isCitizen nc ci = false := by rw [mf_isCitizen, if_pos c_1]
    exact zr_oz hx hb hr hlocks dX7_isCitizen_20 rfl (congrArg (fun z => Value.int (zb z)) e_)
  · refine lv_iload_n hx hb dX7_isCitizen_4 rfl (lv_at hl 1 rfl) ?_
    refine lv_aload_n hx hb dX7_isCitizen_5 rfl (lv_at hl 0 rfl) ?_
    refine va_get (D := G.1) (ci := 7) (v := .ref (ad 1)) (C := RX7) (T := TX7) (N := 39) hx hb hts in_X7 hown hK.1 hP 0 rfl rfl 0 (Nat.le_of_ble_eq_true rfl) (hts _ q1467) (fun _ h => h) rfl dX7_isCitizen_6 ?_
    refine lv_bipush (v := 6) hx hb dX7_isCitizen_9 (by decide) ?_
    refine zr_iald 6 (v := nI nc) hx hb hK hP 1 rfl rfl (Nat.le_of_ble_eq_true rfl) rfl (by decide) (mOK_nc hG) dX7_isCitizen_11 ?_
    refine lv_icmp_ge (tgt := 19) hx hb dX7_isCitizen_12 (by decide) (fun c_2 => ?_) (fun c_2 => ?_)
    · refine lv_iconst (v := 0) hx hb dX7_isCitizen_19 (by decide) ?_
      have e_ : mf_isCitizen nc ci = false := by rw [mf_isCitizen, if_neg c_1, if_pos c_2]
      exact zr_oz hx hb hr hlocks dX7_isCitizen_20 rfl (congrArg (fun z => Value.int (zb z)) e_)
    · refine lv_iconst (v := 1) hx hb dX7_isCitizen_15 (by decide) ?_
      refine lv_goto (tgt := 20) hx hb dX7_isCitizen_16 (by decide) ?_
      have e_ : mf_isCitizen nc ci = true := by rw [mf_isCitizen, if_neg c_1, if_neg c_2]
      exact zr_oz hx hb hr hlocks dX7_isCitizen_20 rfl (congrArg (fun z => Value.int (zb z)) e_)
theorem isCitizen_t {nc : Nat} {ci : Int32} (hn : nc ≤ 6) (h : mf_isCitizen nc ci = true) : ¬ ci < 0 ∧ ci.toNatClampNeg < nc := by
  unfold mf_isCitizen at h
  by_cases h1 : ci < 0
  · rw [if_pos h1] at h; cases h
  · rw [if_neg h1] at h
    by_cases h2 : nI nc ≤ ci
    · rw [if_pos h2] at h; cases h
    · exact ⟨h1, z_nge nc (by omega) h1 h2⟩
