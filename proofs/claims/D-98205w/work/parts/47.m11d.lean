def mf_does_B54 (m_at : Nat → Int32) (Wd : Nat) (R : Nat) (kk : Nat) (k_2 : Nat) (s_2 : (Nat → Int32) × (Nat → Int32)) : (Nat → Int32) × (Nat → Int32) :=
  zlet (mf_goes s_2.1 s_2.2 Wd R) (fun t_3 =>
  (t_3.1, t_3.2))
def mf_does_L54 (m_at : Nat → Int32) (Wd : Nat) (R : Nat) (kk : Nat) (s_2 : (Nat → Int32) × (Nat → Int32)) : (Nat → Int32) × (Nat → Int32) := zf (mf_does_B54 m_at Wd R kk) s_2 ((m_at (44 + 6 * kk + 1)).toNatClampNeg)
def mf_does (m_drawn : Int32) (m_at : Nat → Int32) (m_beside : Nat → Int32) (m_ran : Nat → Int32) (Wd : Nat) (R : Nat) (nr : Nat) (nc : Nat) (kk : Nat) : Bool × Int32 × (Nat → Int32) × (Nat → Int32) × (Nat → Int32) :=
  (if (m_at (44 + 6 * kk)) = 9 then
    zlet (mf_does_L54 m_at Wd R kk (m_at, m_beside)) (fun s_2 =>
    (true, m_drawn, s_2.1, s_2.2, upd m_ran 1 ((m_ran 1) + (nI ((m_at (44 + 6 * kk + 1)).toNatClampNeg)))))
  else
    (if (m_at (44 + 6 * kk)) = 10 then
      (if (mf_wrongLamp m_at Wd R (m_at (44 + 6 * kk + 1)) (m_at (44 + 6 * kk + 2))) ≤ 0 then
        (true, m_drawn, upd m_at 3 ((m_at 3) ^^^ (mf_bitOf Wd (m_at (44 + 6 * kk + 1)) (m_at (44 + 6 * kk + 2)))), m_beside, m_ran)
      else
        (false, m_drawn, m_at, m_beside, m_ran))
    else
      (if (m_at (44 + 6 * kk)) = 11 then
        (true, m_drawn, upd m_at 10 (m_at (44 + 6 * kk + 1)), m_beside, m_ran)
      else
        (if (m_at (44 + 6 * kk)) = 12 then
          zlet (mf_elects m_at m_beside Wd R nr nc) (fun t_8 =>
          (t_8.1, m_drawn, t_8.2.1, t_8.2.2, m_ran))
        else
          (if (m_at (44 + 6 * kk)) = 13 then
            zlet (mf_storms m_drawn m_at m_ran Wd R (m_at (44 + 6 * kk + 1))) (fun t_10 =>
            (t_10.1, t_10.2.1, t_10.2.2.1, m_beside, t_10.2.2.2))
          else
            (if (m_at (44 + 6 * kk)) = 14 then
              zlet (mf_isBorn m_drawn m_at m_ran Wd R) (fun t_12 =>
              (t_12.1, t_12.2.1, t_12.2.2.1, m_beside, t_12.2.2.2))
            else
              (true, m_drawn, m_at, m_beside, m_ran)))))))
theorem hd_X7_does : yX7_does.cls = RX7 ∧ yX7_does.cls ≠ "java/lang/invoke/MethodHandle" ∧ yX7_does.cls ≠ "java/lang/invoke/VarHandle" ∧ (parseMethodDescriptor yX7_does.desc).map (fun d => d.parameters.length) = some 1 := by decide +kernel
set_option maxHeartbeats 4000000 in
set_option maxRecDepth 100000 in
theorem mt_mf_does (l : Launch) (G : zG) (ad : Nat → Nat) (m_status : Int32) (m_top : Int64) (m_bottom : Int64) (m_taped : Int32) (m_size : Int32) (m_token : Int32) (m_from : Int32) (m_end : Int32) (m_value : Int32) (m_faultKind : Int32) (m_faultPlace : Int32) (m_faults : Int32) (m_seen : Int32) (m_depth : Int32) (m_counted : Int32) (m_lead : Int32) (m_round : Int32) (m_tried : Int32) (m_triedMany : Int32) (m_drawn : Int32) (m_ranSteps : Int32) (m_isTold : Bool) (m_marks : Int32) (m_at : Nat → Int32) (m_names : Nat → Int64) (m_sort : Nat → Int32) (m_trayMany : Nat → Int32) (m_trays : Nat → Int64) (m_tape : Nat → Int32) (m_text : Nat → Int32) (m_opened : Nat → Int32) (m_beside : Nat → Int32) (m_then : Nat → Int32) (m_ways : Nat → Int64) (m_further : Nat → Int64) (m_canBe : Nat → Int32) (m_loops : Nat → Int32) (m_ran : Nat → Int32) (m_told0 : Nat → Int32) (Wd : Nat) (R : Nat) (nr : Nat) (nc : Nat) (nn : Nat) (kk : Nat) (hY : mYR m_at Wd R nr nc nn) (hkk : kk < nn) (sz : Nat) : Met l yX7_does (ws_ yX7_does cX7_does 4 (some .boolean)) (zR 7 0 0) (zPm G sz [.ref (ad 0), .int (nI (44 + 6 * kk))] (mW G ad m_status m_top m_bottom m_taped m_size m_token m_from m_end m_value m_faultKind m_faultPlace m_faults m_seen m_depth m_counted m_lead m_round m_tried m_triedMany m_drawn m_ranSteps m_isTold m_marks m_at m_names m_sort m_trayMany m_trays m_tape m_text m_opened m_beside m_then m_ways m_further m_canBe m_loops m_ran m_told0)) (zQm G (mYR ((mf_does m_drawn m_at m_beside m_ran Wd R nr nc kk).2.2.1) Wd R nr nc nn) (some (.int (zb ((mf_does m_drawn m_at m_beside m_ran Wd R nr nc kk).1)))) (mW G ad m_status m_top m_bottom m_taped m_size m_token m_from m_end m_value m_faultKind m_faultPlace m_faults m_seen m_depth m_counted m_lead m_round m_tried m_triedMany ((mf_does m_drawn m_at m_beside m_ran Wd R nr nc kk).2.1) m_ranSteps m_isTold m_marks ((mf_does m_drawn m_at m_beside m_ran Wd R nr nc kk).2.2.1) m_names m_sort m_trayMany m_trays m_tape m_text m_opened ((mf_does m_drawn m_at m_beside m_ran Wd R nr nc kk).2.2.2.1) m_then m_ways m_further m_canBe m_loops ((mf_does m_drawn m_at m_beside m_ran Wd R nr nc kk).2.2.2.2) m_told0) (va_A (mW G ad m_status m_top m_bottom m_taped m_size m_token m_from m_end m_value m_faultKind m_faultPlace m_faults m_seen m_depth m_counted m_lead m_round m_tried m_triedMany m_drawn m_ranSteps m_isTold m_marks m_at m_names m_sort m_trayMany m_trays m_tape m_text m_opened m_beside m_then m_ways m_further m_canBe m_loops m_ran m_told0) sz)) 0 0 (va_A (mW G ad m_status m_top m_bottom m_taped m_size m_token m_from m_end m_value m_faultKind m_faultPlace m_faults m_seen m_depth m_counted m_lead m_round m_tried m_triedMany m_drawn m_ranSteps m_isTold m_marks m_at m_names m_sort m_trayMany m_trays m_tape m_text m_opened m_beside m_then m_ways m_further m_canBe m_loops m_ran m_told0) sz) := by
  refine zr_entM (by decide) (Nat.le_of_ble_eq_true rfl) ?_
  intro p e s m below meth c ⟨hx, hb, hr, hml, hown, hts, hlocks, hnm⟩ ls hl hP hK A hE hA hD hS
  have hown : s.vm.findClass RX7 = some m.cls := hown
  have hl : lv_has ls 4 [(0, .ref (ad 0)), (1, .int (nI (44 + 6 * kk)))] := hl
  obtain ⟨H, hH⟩ : ∃ H, H = s.heap := ⟨_, rfl⟩
  obtain ⟨locs, hlo⟩ : ∃ L : List Loc, L = [] := ⟨_, rfl⟩
  rw [← hH] at hP
  have hS : va_S A s.heap H locs := by rw [hH, hlo]; exact va_S.rf
  have hgo : W p l e (zR 7 0 0) s m ([.ref (ad 0), .int (nI (44 + 6 * kk))] : List Value).toArray below meth c H locs 0 0 (MQ below (zQm G (mYR ((mf_does m_drawn m_at m_beside m_ran Wd R nr nc kk).2.2.1) Wd R nr nc nn) (some (.int (zb ((mf_does m_drawn m_at m_beside m_ran Wd R nr nc kk).1)))) (mW G ad m_status m_top m_bottom m_taped m_size m_token m_from m_end m_value m_faultKind m_faultPlace m_faults m_seen m_depth m_counted m_lead m_round m_tried m_triedMany ((mf_does m_drawn m_at m_beside m_ran Wd R nr nc kk).2.1) m_ranSteps m_isTold m_marks ((mf_does m_drawn m_at m_beside m_ran Wd R nr nc kk).2.2.1) m_names m_sort m_trayMany m_trays m_tape m_text m_opened ((mf_does m_drawn m_at m_beside m_ran Wd R nr nc kk).2.2.2.1) m_then m_ways m_further m_canBe m_loops ((mf_does m_drawn m_at m_beside m_ran Wd R nr nc kk).2.2.2.2) m_told0) A) ([.ref (ad 0), .int (nI (44 + 6 * kk))] : List Value).toArray s 0 0 A) (F0 m 0 ls []) := ?_
  · rw [hH, hlo] at hgo; exact hgo
  clear hH hlo
  have hG := hY.1
  have hnn6 := hY.2.2.1
  have hWR := mOK_WR hG
  have hW0 := mOK_W0 hG
  have hW5 := mOK_W5 hG
  have hR0 := mOK_R0 hG
  have hR6 := mOK_R6 hG
  have hn4 := mOK_n4 hG
  have hc6 := mOK_c6 hG
  obtain ⟨hr9, hr11, hr16, hr17, hr15⟩ := hY.2.2.2 kk hkk
  refine lv_aload_n hx hb dX7_does_0 rfl (lv_at hl 0 rfl) ?_
  refine va_get (D := G.1) (ci := 7) (v := .ref (ad 1)) (C := RX7) (T := TX7) (N := 39) hx hb hts in_X7 hown hK.1 hP 0 rfl rfl 0 (Nat.le_of_ble_eq_true rfl) (hts _ q1467) (fun _ h => h) rfl dX7_does_1 ?_
  refine lv_iload_n hx hb dX7_does_4 rfl (lv_at hl 1 rfl) ?_
  refine lv_iconst (v := 1) hx hb dX7_does_5 (by decide) ?_
  refine zr_iaddN (44 + 6 * kk) 1 hx hb dX7_does_6 ?_
  refine zr_val (v' := .int (nI (44 + 6 * kk + 1))) (by rfl) ?_
  refine zr_iald (44 + 6 * kk + 1) (v := m_at (44 + 6 * kk + 1)) hx hb hK hP 1 rfl rfl (Nat.le_of_ble_eq_true rfl) rfl (by omega) rfl dX7_does_7 ?_
  refine lv_istore_n (lv' := [(2, .int (m_at (44 + 6 * kk + 1))), (0, .ref (ad 0)), (1, .int (nI (44 + 6 * kk)))]) hx hb dX7_does_8 rfl hl (by decide) rfl (fun ls hl => ?_)
  refine lv_aload_n hx hb dX7_does_9 rfl (lv_at hl 1 rfl) ?_
  refine va_get (D := G.1) (ci := 7) (v := .ref (ad 1)) (C := RX7) (T := TX7) (N := 39) hx hb hts in_X7 hown hK.1 hP 0 rfl rfl 0 (Nat.le_of_ble_eq_true rfl) (hts _ q1467) (fun _ h => h) rfl dX7_does_10 ?_
  refine lv_iload_n hx hb dX7_does_13 rfl (lv_at hl 2 rfl) ?_
  refine zr_iald (44 + 6 * kk) (v := m_at (44 + 6 * kk)) hx hb hK hP 1 rfl rfl (Nat.le_of_ble_eq_true rfl) rfl (by omega) rfl dX7_does_14 ?_
  rcases Classical.em ((m_at (44 + 6 * kk)) = 9) with c_1 | c_1
  · refine lv_tableIn (off := 37) (tgt := 52) hx hb dX7_does_15 (by rw [c_1]; decide) (by rw [c_1]; decide) (by rw [c_1]; rfl) (by decide) ?_
    have hb9 := (hr9 (by assumption)).2
    have hl : lv_has ls 4 [(2, .int (nI ((m_at (44 + 6 * kk + 1)).toNatClampNeg))), (0, .ref (ad 0)), (1, .int (nI (44 + 6 * kk)))] := by rw [← (z_nn (hr9 (by assumption)).1 : m_at (44 + 6 * kk + 1) = nI ((m_at (44 + 6 * kk + 1)).toNatClampNeg))]; exact hl
    refine lv_iconst (v := 0) hx hb dX7_does_52 (by decide) ?_
    refine lv_istore_n (lv' := [(3, .int 0), (2, .int (nI ((m_at (44 + 6 * kk + 1)).toNatClampNeg))), (0, .ref (ad 0)), (1, .int (nI (44 + 6 * kk)))]) hx hb dX7_does_53 rfl hl (by decide) rfl (fun ls hl => ?_)
    have hlp_2 : ∀ (n k_2 : Nat) (s_2 : (Nat → Int32) × (Nat → Int32)), k_2 ≤ (m_at (44 + 6 * kk + 1)).toNatClampNeg → (m_at (44 + 6 * kk + 1)).toNatClampNeg < k_2 + n → zf (mf_does_B54 m_at Wd R kk) (m_at, m_beside) k_2 = s_2 → mYR s_2.1 Wd R nr nc nn → ∀ (H : Heap) (locs : List Loc), va_P G.1 zcl (mW G ad m_status m_top m_bottom m_taped m_size m_token m_from m_end m_value m_faultKind m_faultPlace m_faults m_seen m_depth m_counted m_lead m_round m_tried m_triedMany m_drawn m_ranSteps m_isTold m_marks s_2.1 m_names m_sort m_trayMany m_trays m_tape m_text m_opened s_2.2 m_then m_ways m_further m_canBe m_loops m_ran m_told0) H → va_D A (mW G ad m_status m_top m_bottom m_taped m_size m_token m_from m_end m_value m_faultKind m_faultPlace m_faults m_seen m_depth m_counted m_lead m_round m_tried m_triedMany m_drawn m_ranSteps m_isTold m_marks s_2.1 m_names m_sort m_trayMany m_trays m_tape m_text m_opened s_2.2 m_then m_ways m_further m_canBe m_loops m_ran m_told0) → va_S A s.heap H locs → ∀ ls : Array Slot, lv_has ls 4 [(3, .int (nI k_2)), (2, .int (nI ((m_at (44 + 6 * kk + 1)).toNatClampNeg))), (0, .ref (ad 0))] → W p l e (zR 7 0 0) s m ([.ref (ad 0), .int (nI (44 + 6 * kk))] : List Value).toArray below meth c H locs 0 0 (MQ below (zQm G (mYR ((mf_does m_drawn m_at m_beside m_ran Wd R nr nc kk).2.2.1) Wd R nr nc nn) (some (.int (zb ((mf_does m_drawn m_at m_beside m_ran Wd R nr nc kk).1)))) (mW G ad m_status m_top m_bottom m_taped m_size m_token m_from m_end m_value m_faultKind m_faultPlace m_faults m_seen m_depth m_counted m_lead m_round m_tried m_triedMany ((mf_does m_drawn m_at m_beside m_ran Wd R nr nc kk).2.1) m_ranSteps m_isTold m_marks ((mf_does m_drawn m_at m_beside m_ran Wd R nr nc kk).2.2.1) m_names m_sort m_trayMany m_trays m_tape m_text m_opened ((mf_does m_drawn m_at m_beside m_ran Wd R nr nc kk).2.2.2.1) m_then m_ways m_further m_canBe m_loops ((mf_does m_drawn m_at m_beside m_ran Wd R nr nc kk).2.2.2.2) m_told0) A) ([.ref (ad 0), .int (nI (44 + 6 * kk))] : List Value).toArray s 0 0 A) (F0 m 54 ls []) := by
      intro n
      induction n with
      | zero => intro k_2 s_2 h1 h2; exact absurd h2 (by omega)
      | succ n ih_2 =>
        intro k_2 s_2 hk_2 hn_2 hst_2 ok_2_m_at H locs hP hD hS ls hl
        refine lv_iload_n hx hb dX7_does_54 rfl (lv_at hl 0 rfl) ?_
        refine lv_iload_n hx hb dX7_does_55 rfl (lv_at hl 1 rfl) ?_
        refine zr_ge k_2 ((m_at (44 + 6 * kk + 1)).toNatClampNeg) (by omega) (by omega) (tgt := 69) hx hb dX7_does_56 (by decide) (fun c_2 => ?_) (fun c_2 => ?_)
        · have ek_2 : k_2 = (m_at (44 + 6 * kk + 1)).toNatClampNeg := Nat.le_antisymm hk_2 c_2
          have hs_2 : mf_does_L54 m_at Wd R kk (m_at, m_beside) = s_2 := by rw [ek_2] at hst_2; exact hst_2
          have hl := lv_sub hl (l' := _) [1, 2] rfl
          refine lv_aload_n hx hb dX7_does_69 rfl (lv_at hl 1 rfl) ?_
          refine va_get (D := G.1) (ci := 7) (v := .ref (ad 15)) (C := RX7) (T := TX7) (N := 39) hx hb hts in_X7 hown hK.1 hP 0 rfl rfl 35 (Nat.le_of_ble_eq_true rfl) (hts _ q1502) (fun _ h => h) rfl dX7_does_70 ?_
          refine lv_iconst (v := 1) hx hb dX7_does_73 (by decide) ?_
          refine lv_dup2_11 hx hb dX7_does_74 rfl rfl ?_
          refine zr_iald 1 (v := m_ran 1) hx hb hK hP 15 rfl rfl (Nat.le_of_ble_eq_true rfl) rfl (by decide) rfl dX7_does_75 ?_
          refine lv_iload_n hx hb dX7_does_76 rfl (lv_at hl 0 rfl) ?_
          refine lv_iadd hx hb dX7_does_77 ?_
          refine zr_iast 1 (ws' := (mW G ad m_status m_top m_bottom m_taped m_size m_token m_from m_end m_value m_faultKind m_faultPlace m_faults m_seen m_depth m_counted m_lead m_round m_tried m_triedMany m_drawn m_ranSteps m_isTold m_marks s_2.1 m_names m_sort m_trayMany m_trays m_tape m_text m_opened s_2.2 m_then m_ways m_further m_canBe m_loops (upd m_ran 1 ((m_ran 1) + (nI ((m_at (44 + 6 * kk + 1)).toNatClampNeg)))) m_told0)) hx hb hK hP hD hS 15 rfl rfl (Nat.le_of_ble_eq_true rfl) rfl (by decide) rfl dX7_does_78 (fun H locs hP hD hS => ?_)
          refine lv_iconst (v := 1) hx hb dX7_does_79 (by decide) ?_
          have e_ : mf_does m_drawn m_at m_beside m_ran Wd R nr nc kk = (true, m_drawn, s_2.1, s_2.2, upd m_ran 1 ((m_ran 1) + (nI ((m_at (44 + 6 * kk + 1)).toNatClampNeg)))) := by rw [mf_does, if_pos c_1, zlet_eq hs_2]
          exact zr_mz hx hb hr hlocks hP hD hS dX7_does_80 rfl (by rw [e_]; rfl) (by rw [e_]) (by rw [e_]; exact ok_2_m_at)
        · have hlt_2 : k_2 < (m_at (44 + 6 * kk + 1)).toNatClampNeg := Nat.lt_of_not_le c_2
          refine lv_aload_n hx hb dX7_does_59 rfl (lv_at hl 2 rfl) ?_
          refine zr_muV (F := mf_goes s_2.1 s_2.2 Wd R) (ff := fun t_3 => mOK t_3.1 Wd R nr nc) (rr := fun t_3 => none) (w1 := fun t_3 => (mW G ad m_status m_top m_bottom m_taped m_size m_token m_from m_end m_value m_faultKind m_faultPlace m_faults m_seen m_depth m_counted m_lead m_round m_tried m_triedMany m_drawn m_ranSteps m_isTold m_marks t_3.1 m_names m_sort m_trayMany m_trays m_tape m_text m_opened t_3.2 m_then m_ways m_further m_canBe m_loops m_ran m_told0)) ⟨hx, hb, hml, hown, hts⟩ (mt_mf_goes l G ad m_status m_top m_bottom m_taped m_size m_token m_from m_end m_value m_faultKind m_faultPlace m_faults m_seen m_depth m_counted m_lead m_round m_tried m_triedMany m_drawn m_ranSteps m_isTold m_marks s_2.1 m_names m_sort m_trayMany m_trays m_tape m_text m_opened s_2.2 m_then m_ways m_further m_canBe m_loops m_ran m_told0 Wd R nr nc (mYR_G ok_2_m_at) H.size) (cwV 0 hts (lw_V q1885 q1887 qs104 q144 q1888) rfl rfl rfl hd_X7_goes ⟨(Nat.le_of_ble_eq_true rfl), (Nat.le_of_ble_eq_true rfl)⟩) hP hD hS hA hK hE 0 7 rfl rfl rfl hl.1 rfl (Nat.le_of_ble_eq_true rfl) dX7_does_60 ⟨Nat.le_refl _, Nat.le_refl _⟩ (fun t_3 ht_3 hft_3 H locs hP hD hS _ => ?_)
          refine W.eq (g2 := F0 m 63 ls []) rfl ?_
          have ok_m_at_t_3 := hft_3
          refine lv_iinc (v := nI (k_2 + 1)) (lv' := [(3, .int (nI (k_2 + 1))), (2, .int (nI ((m_at (44 + 6 * kk + 1)).toNatClampNeg))), (0, .ref (ad 0))]) hx hb dX7_does_63 hl (k := 0) rfl (nI_add k_2 1) (by decide) rfl (fun ls hl => ?_)
          refine lv_goto (tgt := 54) hx hb dX7_does_66 (by decide) ?_
          exact ih_2 (k_2 + 1) (t_3.1, t_3.2) hlt_2 (by omega) (zf_s hst_2 (by rw [mf_does_B54, zlet_eq ht_3])) (goes_Y ok_2_m_at ok_m_at_t_3 ht_3) H locs hP hD hS ls (lv_sub hl [0, 1, 2] rfl)
    exact hlp_2 (((m_at (44 + 6 * kk + 1)).toNatClampNeg) + 1) 0 (m_at, m_beside) (Nat.zero_le _) (by omega) rfl hY H locs hP hD hS ls (lv_sub hl [0, 1, 2] rfl)
  · rcases Classical.em ((m_at (44 + 6 * kk)) = 10) with c_4 | c_4
    · refine lv_tableIn (off := 66) (tgt := 81) hx hb dX7_does_15 (by rw [c_4]; decide) (by rw [c_4]; decide) (by rw [c_4]; rfl) (by decide) ?_
      refine lv_aload_n hx hb dX7_does_81 rfl (lv_at hl 1 rfl) ?_
      refine lv_iload_n hx hb dX7_does_82 rfl (lv_at hl 0 rfl) ?_
      refine lv_aload_n hx hb dX7_does_83 rfl (lv_at hl 1 rfl) ?_
      refine va_get (D := G.1) (ci := 7) (v := .ref (ad 1)) (C := RX7) (T := TX7) (N := 39) hx hb hts in_X7 hown hK.1 hP 0 rfl rfl 0 (Nat.le_of_ble_eq_true rfl) (hts _ q1467) (fun _ h => h) rfl dX7_does_84 ?_
      refine lv_iload_n hx hb dX7_does_87 rfl (lv_at hl 2 rfl) ?_
      refine lv_iconst (v := 2) hx hb dX7_does_88 (by decide) ?_
      refine zr_iaddN (44 + 6 * kk) 2 hx hb dX7_does_89 ?_
      refine zr_val (v' := .int (nI (44 + 6 * kk + 2))) (by rfl) ?_
      refine zr_iald (44 + 6 * kk + 2) (v := m_at (44 + 6 * kk + 2)) hx hb hK hP 1 rfl rfl (Nat.le_of_ble_eq_true rfl) rfl (by omega) rfl dX7_does_90 ?_
      refine zr_obV ⟨hx, hb, hml, hown, hts⟩ (mt_mf_wrongLamp l G ad m_status m_top m_bottom m_taped m_size m_token m_from m_end m_value m_faultKind m_faultPlace m_faults m_seen m_depth m_counted m_lead m_round m_tried m_triedMany m_drawn m_ranSteps m_isTold m_marks m_at m_names m_sort m_trayMany m_trays m_tape m_text m_opened m_beside m_then m_ways m_further m_canBe m_loops m_ran m_told0 Wd R nr nc (m_at (44 + 6 * kk + 1)) (m_at (44 + 6 * kk + 2)) (mYR_G hY)) (cwV 2 hts (lw_V q1839 q1841 qs100 q144 q1842) rfl rfl rfl hd_X7_wrongLamp ⟨(Nat.le_of_ble_eq_true rfl), (Nat.le_of_ble_eq_true rfl)⟩) hP hK (zE_o hE hS) 0 7 rfl rfl rfl hl.1 rfl (Nat.le_of_ble_eq_true rfl) dX7_does_91 ⟨Nat.le_refl _, Nat.le_refl _⟩ ?_
      refine lv_if_le (tgt := 99) hx hb dX7_does_94 (by decide) (fun c_5 => ?_) (fun c_5 => ?_)
      · refine lv_aload_n hx hb dX7_does_99 rfl (lv_at hl 1 rfl) ?_
        refine va_get (D := G.1) (ci := 7) (v := .ref (ad 1)) (C := RX7) (T := TX7) (N := 39) hx hb hts in_X7 hown hK.1 hP 0 rfl rfl 0 (Nat.le_of_ble_eq_true rfl) (hts _ q1467) (fun _ h => h) rfl dX7_does_100 ?_
        refine lv_iconst (v := 3) hx hb dX7_does_103 (by decide) ?_
        refine lv_dup2_11 hx hb dX7_does_104 rfl rfl ?_
        refine zr_iald 3 (v := m_at 3) hx hb hK hP 1 rfl rfl (Nat.le_of_ble_eq_true rfl) rfl (by decide) rfl dX7_does_105 ?_
        refine lv_aload_n hx hb dX7_does_106 rfl (lv_at hl 1 rfl) ?_
        refine lv_iload_n hx hb dX7_does_107 rfl (lv_at hl 0 rfl) ?_
        refine lv_aload_n hx hb dX7_does_108 rfl (lv_at hl 1 rfl) ?_
        refine va_get (D := G.1) (ci := 7) (v := .ref (ad 1)) (C := RX7) (T := TX7) (N := 39) hx hb hts in_X7 hown hK.1 hP 0 rfl rfl 0 (Nat.le_of_ble_eq_true rfl) (hts _ q1467) (fun _ h => h) rfl dX7_does_109 ?_
        refine lv_iload_n hx hb dX7_does_112 rfl (lv_at hl 2 rfl) ?_
        refine lv_iconst (v := 2) hx hb dX7_does_113 (by decide) ?_
        refine zr_iaddN (44 + 6 * kk) 2 hx hb dX7_does_114 ?_
        refine zr_val (v' := .int (nI (44 + 6 * kk + 2))) (by rfl) ?_
        refine zr_iald (44 + 6 * kk + 2) (v := m_at (44 + 6 * kk + 2)) hx hb hK hP 1 rfl rfl (Nat.le_of_ble_eq_true rfl) rfl (by omega) rfl dX7_does_115 ?_
        refine zr_obV ⟨hx, hb, hml, hown, hts⟩ (mt_mf_bitOf l G ad m_status m_top m_bottom m_taped m_size m_token m_from m_end m_value m_faultKind m_faultPlace m_faults m_seen m_depth m_counted m_lead m_round m_tried m_triedMany m_drawn m_ranSteps m_isTold m_marks m_at m_names m_sort m_trayMany m_trays m_tape m_text m_opened m_beside m_then m_ways m_further m_canBe m_loops m_ran m_told0 Wd R nr nc (m_at (44 + 6 * kk + 1)) (m_at (44 + 6 * kk + 2)) (mYR_G hY)) (cwV 2 hts (lw_V q1807 q1809 qs95 q144 q1810) rfl rfl rfl hd_X7_bitOf ⟨(Nat.le_of_ble_eq_true rfl), (Nat.le_of_ble_eq_true rfl)⟩) hP hK (zE_o hE hS) 0 7 rfl rfl rfl hl.1 rfl (Nat.le_of_ble_eq_true rfl) dX7_does_116 ⟨Nat.le_refl _, Nat.le_refl _⟩ ?_
        refine lv_ixor hx hb dX7_does_119 ?_
        refine zr_iast 3 (ws' := (mW G ad m_status m_top m_bottom m_taped m_size m_token m_from m_end m_value m_faultKind m_faultPlace m_faults m_seen m_depth m_counted m_lead m_round m_tried m_triedMany m_drawn m_ranSteps m_isTold m_marks (upd m_at 3 ((m_at 3) ^^^ (mf_bitOf Wd (m_at (44 + 6 * kk + 1)) (m_at (44 + 6 * kk + 2))))) m_names m_sort m_trayMany m_trays m_tape m_text m_opened m_beside m_then m_ways m_further m_canBe m_loops m_ran m_told0)) hx hb hK hP hD hS 1 rfl rfl (Nat.le_of_ble_eq_true rfl) rfl (by decide) rfl dX7_does_120 (fun H locs hP hD hS => ?_)
        refine lv_iconst (v := 1) hx hb dX7_does_121 (by decide) ?_
        have e_ : mf_does m_drawn m_at m_beside m_ran Wd R nr nc kk = (true, m_drawn, upd m_at 3 ((m_at 3) ^^^ (mf_bitOf Wd (m_at (44 + 6 * kk + 1)) (m_at (44 + 6 * kk + 2)))), m_beside, m_ran) := by rw [mf_does, if_neg c_1, if_pos c_4, if_pos c_5]
        exact zr_mz hx hb hr hlocks hP hD hS dX7_does_122 rfl (by rw [e_]; rfl) (by rw [e_]) (by rw [e_]; exact (mYR_u hY (by omega)))
      · refine lv_iconst (v := 0) hx hb dX7_does_97 (by decide) ?_
        have e_ : mf_does m_drawn m_at m_beside m_ran Wd R nr nc kk = (false, m_drawn, m_at, m_beside, m_ran) := by rw [mf_does, if_neg c_1, if_pos c_4, if_neg c_5]
        exact zr_mz hx hb hr hlocks hP hD hS dX7_does_98 rfl (by rw [e_]; rfl) (by rw [e_]) (by rw [e_]; exact hY)
    · rcases Classical.em ((m_at (44 + 6 * kk)) = 11) with c_6 | c_6
      · refine lv_tableIn (off := 108) (tgt := 123) hx hb dX7_does_15 (by rw [c_6]; decide) (by rw [c_6]; decide) (by rw [c_6]; rfl) (by decide) ?_
        refine lv_aload_n hx hb dX7_does_123 rfl (lv_at hl 1 rfl) ?_
        refine va_get (D := G.1) (ci := 7) (v := .ref (ad 1)) (C := RX7) (T := TX7) (N := 39) hx hb hts in_X7 hown hK.1 hP 0 rfl rfl 0 (Nat.le_of_ble_eq_true rfl) (hts _ q1467) (fun _ h => h) rfl dX7_does_124 ?_
        refine lv_bipush (v := 10) hx hb dX7_does_127 (by decide) ?_
        refine lv_iload_n hx hb dX7_does_129 rfl (lv_at hl 0 rfl) ?_
        refine zr_iast 10 (ws' := (mW G ad m_status m_top m_bottom m_taped m_size m_token m_from m_end m_value m_faultKind m_faultPlace m_faults m_seen m_depth m_counted m_lead m_round m_tried m_triedMany m_drawn m_ranSteps m_isTold m_marks (upd m_at 10 (m_at (44 + 6 * kk + 1))) m_names m_sort m_trayMany m_trays m_tape m_text m_opened m_beside m_then m_ways m_further m_canBe m_loops m_ran m_told0)) hx hb hK hP hD hS 1 rfl rfl (Nat.le_of_ble_eq_true rfl) rfl (by decide) rfl dX7_does_130 (fun H locs hP hD hS => ?_)
        refine lv_iconst (v := 1) hx hb dX7_does_131 (by decide) ?_
        have e_ : mf_does m_drawn m_at m_beside m_ran Wd R nr nc kk = (true, m_drawn, upd m_at 10 (m_at (44 + 6 * kk + 1)), m_beside, m_ran) := by rw [mf_does, if_neg c_1, if_neg c_4, if_pos c_6]
        exact zr_mz hx hb hr hlocks hP hD hS dX7_does_132 rfl (by rw [e_]; rfl) (by rw [e_]) (by rw [e_]; exact (mYR_b hY (hr11 (by assumption))))
      · rcases Classical.em ((m_at (44 + 6 * kk)) = 12) with c_7 | c_7
        · refine lv_tableIn (off := 118) (tgt := 133) hx hb dX7_does_15 (by rw [c_7]; decide) (by rw [c_7]; decide) (by rw [c_7]; rfl) (by decide) ?_
          refine lv_aload_n hx hb dX7_does_133 rfl (lv_at hl 1 rfl) ?_
          refine zr_muV (F := mf_elects m_at m_beside Wd R nr nc) (ff := fun t_8 => mOK t_8.2.1 Wd R nr nc) (rr := fun t_8 => some (.int (zb t_8.1))) (w1 := fun t_8 => (mW G ad m_status m_top m_bottom m_taped m_size m_token m_from m_end m_value m_faultKind m_faultPlace m_faults m_seen m_depth m_counted m_lead m_round m_tried m_triedMany m_drawn m_ranSteps m_isTold m_marks t_8.2.1 m_names m_sort m_trayMany m_trays m_tape m_text m_opened t_8.2.2 m_then m_ways m_further m_canBe m_loops m_ran m_told0)) ⟨hx, hb, hml, hown, hts⟩ (mt_mf_elects l G ad m_status m_top m_bottom m_taped m_size m_token m_from m_end m_value m_faultKind m_faultPlace m_faults m_seen m_depth m_counted m_lead m_round m_tried m_triedMany m_drawn m_ranSteps m_isTold m_marks m_at m_names m_sort m_trayMany m_trays m_tape m_text m_opened m_beside m_then m_ways m_further m_canBe m_loops m_ran m_told0 Wd R nr nc (mYR_G hY) H.size) (cwV 0 hts (lw_V q2070 q2072 qs123 q144 q2073) rfl rfl rfl hd_X7_elects ⟨(Nat.le_of_ble_eq_true rfl), (Nat.le_of_ble_eq_true rfl)⟩) hP hD hS hA hK hE 0 7 rfl rfl rfl hl.1 rfl (Nat.le_of_ble_eq_true rfl) dX7_does_134 ⟨Nat.le_refl _, Nat.le_refl _⟩ (fun t_8 ht_8 hft_8 H locs hP hD hS _ => ?_)
          refine W.eq (g2 := F0 m 137 ls [.int (zb t_8.1)]) rfl ?_
          have ok_m_at_t_8 := hft_8
          have e_ : mf_does m_drawn m_at m_beside m_ran Wd R nr nc kk = (t_8.1, m_drawn, t_8.2.1, t_8.2.2, m_ran) := by rw [mf_does, if_neg c_1, if_neg c_4, if_neg c_6, if_pos c_7, zlet_eq ht_8]
          exact zr_mz hx hb hr hlocks hP hD hS dX7_does_137 zb_nar (by rw [e_]) (by rw [e_]) (by rw [e_]; exact (elects_Y hY ok_m_at_t_8 ht_8))
        · rcases Classical.em ((m_at (44 + 6 * kk)) = 13) with c_9 | c_9
          · refine lv_tableIn (off := 123) (tgt := 138) hx hb dX7_does_15 (by rw [c_9]; decide) (by rw [c_9]; decide) (by rw [c_9]; rfl) (by decide) ?_
            refine lv_aload_n hx hb dX7_does_138 rfl (lv_at hl 1 rfl) ?_
            refine lv_iload_n hx hb dX7_does_139 rfl (lv_at hl 0 rfl) ?_
            refine zr_muV (F := mf_storms m_drawn m_at m_ran Wd R (m_at (44 + 6 * kk + 1))) (ff := fun t_10 => mYR t_10.2.2.1 Wd R nr nc nn) (rr := fun t_10 => some (.int (zb t_10.1))) (w1 := fun t_10 => (mW G ad m_status m_top m_bottom m_taped m_size m_token m_from m_end m_value m_faultKind m_faultPlace m_faults m_seen m_depth m_counted m_lead m_round m_tried m_triedMany t_10.2.1 m_ranSteps m_isTold m_marks t_10.2.2.1 m_names m_sort m_trayMany m_trays m_tape m_text m_opened m_beside m_then m_ways m_further m_canBe m_loops t_10.2.2.2 m_told0)) ⟨hx, hb, hml, hown, hts⟩ (mt_mf_storms l G ad m_status m_top m_bottom m_taped m_size m_token m_from m_end m_value m_faultKind m_faultPlace m_faults m_seen m_depth m_counted m_lead m_round m_tried m_triedMany m_drawn m_ranSteps m_isTold m_marks m_at m_names m_sort m_trayMany m_trays m_tape m_text m_opened m_beside m_then m_ways m_further m_canBe m_loops m_ran m_told0 Wd R nr nc nn (m_at (44 + 6 * kk + 1)) hY H.size) (cwV 1 hts (lw_V q2114 q2116 qs128 q144 q2117) rfl rfl rfl hd_X7_storms ⟨(Nat.le_of_ble_eq_true rfl), (Nat.le_of_ble_eq_true rfl)⟩) hP hD hS hA hK hE 0 7 rfl rfl rfl hl.1 rfl (Nat.le_of_ble_eq_true rfl) dX7_does_140 ⟨Nat.le_refl _, Nat.le_refl _⟩ (fun t_10 ht_10 hft_10 H locs hP hD hS _ => ?_)
            refine W.eq (g2 := F0 m 143 ls [.int (zb t_10.1)]) rfl ?_
            have ok_m_at_t_10 := hft_10
            have e_ : mf_does m_drawn m_at m_beside m_ran Wd R nr nc kk = (t_10.1, t_10.2.1, t_10.2.2.1, m_beside, t_10.2.2.2) := by rw [mf_does, if_neg c_1, if_neg c_4, if_neg c_6, if_neg c_7, if_pos c_9, zlet_eq ht_10]
            exact zr_mz hx hb hr hlocks hP hD hS dX7_does_143 zb_nar (by rw [e_]) (by rw [e_]) (by rw [e_]; exact ok_m_at_t_10)
          · rcases Classical.em ((m_at (44 + 6 * kk)) = 14) with c_11 | c_11
            · refine lv_tableIn (off := 129) (tgt := 144) hx hb dX7_does_15 (by rw [c_11]; decide) (by rw [c_11]; decide) (by rw [c_11]; rfl) (by decide) ?_
              refine lv_aload_n hx hb dX7_does_144 rfl (lv_at hl 1 rfl) ?_
              refine zr_muV (F := mf_isBorn m_drawn m_at m_ran Wd R) (ff := fun t_12 => mYR t_12.2.2.1 Wd R nr nc nn) (rr := fun t_12 => some (.int (zb t_12.1))) (w1 := fun t_12 => (mW G ad m_status m_top m_bottom m_taped m_size m_token m_from m_end m_value m_faultKind m_faultPlace m_faults m_seen m_depth m_counted m_lead m_round m_tried m_triedMany t_12.2.1 m_ranSteps m_isTold m_marks t_12.2.2.1 m_names m_sort m_trayMany m_trays m_tape m_text m_opened m_beside m_then m_ways m_further m_canBe m_loops t_12.2.2.2 m_told0)) ⟨hx, hb, hml, hown, hts⟩ (mt_mf_isBorn l G ad m_status m_top m_bottom m_taped m_size m_token m_from m_end m_value m_faultKind m_faultPlace m_faults m_seen m_depth m_counted m_lead m_round m_tried m_triedMany m_drawn m_ranSteps m_isTold m_marks m_at m_names m_sort m_trayMany m_trays m_tape m_text m_opened m_beside m_then m_ways m_further m_canBe m_loops m_ran m_told0 Wd R nr nc nn hY H.size) (cwV 0 hts (lw_V q2123 q2125 qs130 q144 q2126) rfl rfl rfl hd_X7_isBorn ⟨(Nat.le_of_ble_eq_true rfl), (Nat.le_of_ble_eq_true rfl)⟩) hP hD hS hA hK hE 0 7 rfl rfl rfl hl.1 rfl (Nat.le_of_ble_eq_true rfl) dX7_does_145 ⟨Nat.le_refl _, Nat.le_refl _⟩ (fun t_12 ht_12 hft_12 H locs hP hD hS _ => ?_)
              refine W.eq (g2 := F0 m 148 ls [.int (zb t_12.1)]) rfl ?_
              have ok_m_at_t_12 := hft_12
              have e_ : mf_does m_drawn m_at m_beside m_ran Wd R nr nc kk = (t_12.1, t_12.2.1, t_12.2.2.1, m_beside, t_12.2.2.2) := by rw [mf_does, if_neg c_1, if_neg c_4, if_neg c_6, if_neg c_7, if_neg c_9, if_pos c_11, zlet_eq ht_12]
              exact zr_mz hx hb hr hlocks hP hD hS dX7_does_148 zb_nar (by rw [e_]) (by rw [e_]) (by rw [e_]; exact ok_m_at_t_12)
            · refine lv_tableOut (tgt := 149) hx hb dX7_does_15 (z_out (m_at (44 + 6 * kk)) (lo := 9) (hi := 14) (fun z h1 h2 => have h3 : z = 9 ∨ z = 10 ∨ z = 11 ∨ z = 12 ∨ z = 13 ∨ z = 14 := (by omega); (h3.elim (fun h3 => z_outq c_1 (by decide) h3) (fun h3 => (h3.elim (fun h3 => z_outq c_4 (by decide) h3) (fun h3 => (h3.elim (fun h3 => z_outq c_6 (by decide) h3) (fun h3 => (h3.elim (fun h3 => z_outq c_7 (by decide) h3) (fun h3 => (h3.elim (fun h3 => z_outq c_9 (by decide) h3) (fun h3 => (z_outq c_11 (by decide) h3))))))))))))) (by decide) ?_
              refine lv_iconst (v := 1) hx hb dX7_does_149 (by decide) ?_
              have e_ : mf_does m_drawn m_at m_beside m_ran Wd R nr nc kk = (true, m_drawn, m_at, m_beside, m_ran) := by rw [mf_does, if_neg c_1, if_neg c_4, if_neg c_6, if_neg c_7, if_neg c_9, if_neg c_11]
              exact zr_mz hx hb hr hlocks hP hD hS dX7_does_150 rfl (by rw [e_]; rfl) (by rw [e_]) (by rw [e_]; exact hY)
def mf_holds (m_at : Nat → Int32) (m_beside : Nat → Int32) (Wd : Nat) (R : Nat) (kk : Nat) : Bool × (Nat → Int32) :=
  (if ((m_at (44 + 6 * kk)) - 1500) = 21 then
    zlet (mf_isStill m_at m_beside Wd R) (fun t_9 =>
    (t_9.1, t_9.2))
  else
    (if ((m_at (44 + 6 * kk)) - 1500) = 20 then
      (if ((m_at 3) &&& (mf_bitOf Wd (m_at (44 + 6 * kk + 1)) (m_at (44 + 6 * kk + 2)))) = 0 then
        (false, m_beside)
      else
        (true, m_beside))
    else
      (if (m_at (44 + 6 * kk + 5)) = 60 then
        (if (m_at (44 + 6 * kk + 1)) ≤ (nI (zpc (m_at 3))) then
          (false, m_beside)
        else
          (true, m_beside))
      else
        (if (m_at (44 + 6 * kk + 5)) = 62 then
          (if (nI (zpc (m_at 3))) ≤ (m_at (44 + 6 * kk + 1)) then
            (false, m_beside)
          else
            (true, m_beside))
        else
          (if (nI (zpc (m_at 3))) = (m_at (44 + 6 * kk + 1)) then
            (true, m_beside)
          else
            (false, m_beside))))))
theorem hd_X7_holds : yX7_holds.cls = RX7 ∧ yX7_holds.cls ≠ "java/lang/invoke/MethodHandle" ∧ yX7_holds.cls ≠ "java/lang/invoke/VarHandle" ∧ (parseMethodDescriptor yX7_holds.desc).map (fun d => d.parameters.length) = some 1 := by decide +kernel
set_option maxHeartbeats 4000000 in
set_option maxRecDepth 100000 in
theorem mt_mf_holds (l : Launch) (G : zG) (ad : Nat → Nat) (m_status : Int32) (m_top : Int64) (m_bottom : Int64) (m_taped : Int32) (m_size : Int32) (m_token : Int32) (m_from : Int32) (m_end : Int32) (m_value : Int32) (m_faultKind : Int32) (m_faultPlace : Int32) (m_faults : Int32) (m_seen : Int32) (m_depth : Int32) (m_counted : Int32) (m_lead : Int32) (m_round : Int32) (m_tried : Int32) (m_triedMany : Int32) (m_drawn : Int32) (m_ranSteps : Int32) (m_isTold : Bool) (m_marks : Int32) (m_at : Nat → Int32) (m_names : Nat → Int64) (m_sort : Nat → Int32) (m_trayMany : Nat → Int32) (m_trays : Nat → Int64) (m_tape : Nat → Int32) (m_text : Nat → Int32) (m_opened : Nat → Int32) (m_beside : Nat → Int32) (m_then : Nat → Int32) (m_ways : Nat → Int64) (m_further : Nat → Int64) (m_canBe : Nat → Int32) (m_loops : Nat → Int32) (m_ran : Nat → Int32) (m_told0 : Nat → Int32) (Wd : Nat) (R : Nat) (nr : Nat) (nc : Nat) (nn : Nat) (kk : Nat) (hY : mYR m_at Wd R nr nc nn) (hkk : kk < nn) (sz : Nat) : Met l yX7_holds (ws_ yX7_holds cX7_holds 4 (some .boolean)) (zR 6 0 0) (zPm G sz [.ref (ad 0), .int (nI (44 + 6 * kk))] (mW G ad m_status m_top m_bottom m_taped m_size m_token m_from m_end m_value m_faultKind m_faultPlace m_faults m_seen m_depth m_counted m_lead m_round m_tried m_triedMany m_drawn m_ranSteps m_isTold m_marks m_at m_names m_sort m_trayMany m_trays m_tape m_text m_opened m_beside m_then m_ways m_further m_canBe m_loops m_ran m_told0)) (zQm G (True) (some (.int (zb ((mf_holds m_at m_beside Wd R kk).1)))) (mW G ad m_status m_top m_bottom m_taped m_size m_token m_from m_end m_value m_faultKind m_faultPlace m_faults m_seen m_depth m_counted m_lead m_round m_tried m_triedMany m_drawn m_ranSteps m_isTold m_marks m_at m_names m_sort m_trayMany m_trays m_tape m_text m_opened ((mf_holds m_at m_beside Wd R kk).2) m_then m_ways m_further m_canBe m_loops m_ran m_told0) (va_A (mW G ad m_status m_top m_bottom m_taped m_size m_token m_from m_end m_value m_faultKind m_faultPlace m_faults m_seen m_depth m_counted m_lead m_round m_tried m_triedMany m_drawn m_ranSteps m_isTold m_marks m_at m_names m_sort m_trayMany m_trays m_tape m_text m_opened m_beside m_then m_ways m_further m_canBe m_loops m_ran m_told0) sz)) 0 0 (va_A (mW G ad m_status m_top m_bottom m_taped m_size m_token m_from m_end m_value m_faultKind m_faultPlace m_faults m_seen m_depth m_counted m_lead m_round m_tried m_triedMany m_drawn m_ranSteps m_isTold m_marks m_at m_names m_sort m_trayMany m_trays m_tape m_text m_opened m_beside m_then m_ways m_further m_canBe m_loops m_ran m_told0) sz) := by
  refine zr_entM (by decide) (Nat.le_of_ble_eq_true rfl) ?_
  intro p e s m below meth c ⟨hx, hb, hr, hml, hown, hts, hlocks, hnm⟩ ls hl hP hK A hE hA hD hS
  have hown : s.vm.findClass RX7 = some m.cls := hown
  have hl : lv_has ls 4 [(0, .ref (ad 0)), (1, .int (nI (44 + 6 * kk)))] := hl
  obtain ⟨H, hH⟩ : ∃ H, H = s.heap := ⟨_, rfl⟩
  obtain ⟨locs, hlo⟩ : ∃ L : List Loc, L = [] := ⟨_, rfl⟩
  rw [← hH] at hP
  have hS : va_S A s.heap H locs := by rw [hH, hlo]; exact va_S.rf
  have hgo : W p l e (zR 6 0 0) s m ([.ref (ad 0), .int (nI (44 + 6 * kk))] : List Value).toArray below meth c H locs 0 0 (MQ below (zQm G (True) (some (.int (zb ((mf_holds m_at m_beside Wd R kk).1)))) (mW G ad m_status m_top m_bottom m_taped m_size m_token m_from m_end m_value m_faultKind m_faultPlace m_faults m_seen m_depth m_counted m_lead m_round m_tried m_triedMany m_drawn m_ranSteps m_isTold m_marks m_at m_names m_sort m_trayMany m_trays m_tape m_text m_opened ((mf_holds m_at m_beside Wd R kk).2) m_then m_ways m_further m_canBe m_loops m_ran m_told0) A) ([.ref (ad 0), .int (nI (44 + 6 * kk))] : List Value).toArray s 0 0 A) (F0 m 0 ls []) := ?_
  · rw [hH, hlo] at hgo; exact hgo
  clear hH hlo
  have hG := hY.1
  have hnn6 := hY.2.2.1
  have hWR := mOK_WR hG
  have hW0 := mOK_W0 hG
  have hW5 := mOK_W5 hG
  have hR0 := mOK_R0 hG
  have hR6 := mOK_R6 hG
  have hn4 := mOK_n4 hG
  have hc6 := mOK_c6 hG
  refine lv_aload_n hx hb dX7_holds_0 rfl (lv_at hl 0 rfl) ?_
  refine va_get (D := G.1) (ci := 7) (v := .ref (ad 1)) (C := RX7) (T := TX7) (N := 39) hx hb hts in_X7 hown hK.1 hP 0 rfl rfl 0 (Nat.le_of_ble_eq_true rfl) (hts _ q1467) (fun _ h => h) rfl dX7_holds_1 ?_
  refine lv_iload_n hx hb dX7_holds_4 rfl (lv_at hl 1 rfl) ?_
  refine zr_iald (44 + 6 * kk) (v := m_at (44 + 6 * kk)) hx hb hK hP 1 rfl rfl (Nat.le_of_ble_eq_true rfl) rfl (by omega) rfl dX7_holds_5 ?_
  refine lv_sipush (v := 1500) hx hb dX7_holds_6 (by decide) ?_
  refine lv_isub hx hb dX7_holds_9 ?_
  refine lv_istore_n (lv' := [(2, .int ((m_at (44 + 6 * kk)) - 1500)), (0, .ref (ad 0)), (1, .int (nI (44 + 6 * kk)))]) hx hb dX7_holds_10 rfl hl (by decide) rfl (fun ls hl => ?_)
  refine lv_iload_n hx hb dX7_holds_11 rfl (lv_at hl 0 rfl) ?_
  refine lv_bipush (v := 21) hx hb dX7_holds_12 (by decide) ?_
  refine lv_icmp_ne (tgt := 22) hx hb dX7_holds_14 (by decide) (fun c_1 => ?_) (fun c_1 => ?_)
  · refine lv_iload_n hx hb dX7_holds_22 rfl (lv_at hl 0 rfl) ?_
    refine lv_bipush (v := 20) hx hb dX7_holds_23 (by decide) ?_
    refine lv_icmp_ne (tgt := 64) hx hb dX7_holds_25 (by decide) (fun c_2 => ?_) (fun c_2 => ?_)
    · refine lv_aload_n hx hb dX7_holds_64 rfl (lv_at hl 1 rfl) ?_
      refine va_get (D := G.1) (ci := 7) (v := .ref (ad 1)) (C := RX7) (T := TX7) (N := 39) hx hb hts in_X7 hown hK.1 hP 0 rfl rfl 0 (Nat.le_of_ble_eq_true rfl) (hts _ q1467) (fun _ h => h) rfl dX7_holds_65 ?_
      refine lv_iconst (v := 3) hx hb dX7_holds_68 (by decide) ?_
      refine zr_iald 3 (v := m_at 3) hx hb hK hP 1 rfl rfl (Nat.le_of_ble_eq_true rfl) rfl (by decide) rfl dX7_holds_69 ?_
      refine zr_puS ⟨hx, hb, hml, hown, hts⟩ (mt_bitsN l (m_at 3)) (va_cwS 1 hts (lw_S q1744 q1745 q144 q1746) rfl rfl rfl hd_X7_bits.2 ⟨(Nat.le_of_ble_eq_true rfl), (Nat.le_of_ble_eq_true rfl)⟩) rfl hl.1 rfl (Nat.le_of_ble_eq_true rfl) dX7_holds_70 ⟨Nat.le_refl _, Nat.le_refl _⟩ ?_
      refine lv_istore_n (lv' := [(3, .int (nI (zpc (m_at 3)))), (2, .int ((m_at (44 + 6 * kk)) - 1500)), (0, .ref (ad 0)), (1, .int (nI (44 + 6 * kk)))]) hx hb dX7_holds_73 rfl hl (by decide) rfl (fun ls hl => ?_)
      refine lv_aload_n hx hb dX7_holds_74 rfl (lv_at hl 2 rfl) ?_
      refine va_get (D := G.1) (ci := 7) (v := .ref (ad 1)) (C := RX7) (T := TX7) (N := 39) hx hb hts in_X7 hown hK.1 hP 0 rfl rfl 0 (Nat.le_of_ble_eq_true rfl) (hts _ q1467) (fun _ h => h) rfl dX7_holds_75 ?_
      refine lv_iload_n hx hb dX7_holds_78 rfl (lv_at hl 3 rfl) ?_
      refine lv_iconst (v := 5) hx hb dX7_holds_79 (by decide) ?_
      refine zr_iaddN (44 + 6 * kk) 5 hx hb dX7_holds_80 ?_
      refine zr_val (v' := .int (nI (44 + 6 * kk + 5))) (by rfl) ?_
      refine zr_iald (44 + 6 * kk + 5) (v := m_at (44 + 6 * kk + 5)) hx hb hK hP 1 rfl rfl (Nat.le_of_ble_eq_true rfl) rfl (by omega) rfl dX7_holds_81 ?_
      refine lv_bipush (v := 60) hx hb dX7_holds_82 (by decide) ?_
      refine lv_icmp_ne (tgt := 107) hx hb dX7_holds_84 (by decide) (fun c_3 => ?_) (fun c_3 => ?_)
      · refine lv_aload_n hx hb dX7_holds_107 rfl (lv_at hl 2 rfl) ?_
        refine va_get (D := G.1) (ci := 7) (v := .ref (ad 1)) (C := RX7) (T := TX7) (N := 39) hx hb hts in_X7 hown hK.1 hP 0 rfl rfl 0 (Nat.le_of_ble_eq_true rfl) (hts _ q1467) (fun _ h => h) rfl dX7_holds_108 ?_
        refine lv_iload_n hx hb dX7_holds_111 rfl (lv_at hl 3 rfl) ?_
        refine lv_iconst (v := 5) hx hb dX7_holds_112 (by decide) ?_
        refine zr_iaddN (44 + 6 * kk) 5 hx hb dX7_holds_113 ?_
        refine zr_val (v' := .int (nI (44 + 6 * kk + 5))) (by rfl) ?_
        refine zr_iald (44 + 6 * kk + 5) (v := m_at (44 + 6 * kk + 5)) hx hb hK hP 1 rfl rfl (Nat.le_of_ble_eq_true rfl) rfl (by omega) rfl dX7_holds_114 ?_
        refine lv_bipush (v := 62) hx hb dX7_holds_115 (by decide) ?_
        refine lv_icmp_ne (tgt := 140) hx hb dX7_holds_117 (by decide) (fun c_4 => ?_) (fun c_4 => ?_)
        · refine lv_iload_n hx hb dX7_holds_140 rfl (lv_at hl 0 rfl) ?_
          refine lv_aload_n hx hb dX7_holds_141 rfl (lv_at hl 2 rfl) ?_
          refine va_get (D := G.1) (ci := 7) (v := .ref (ad 1)) (C := RX7) (T := TX7) (N := 39) hx hb hts in_X7 hown hK.1 hP 0 rfl rfl 0 (Nat.le_of_ble_eq_true rfl) (hts _ q1467) (fun _ h => h) rfl dX7_holds_142 ?_
          refine lv_iload_n hx hb dX7_holds_145 rfl (lv_at hl 3 rfl) ?_
          refine lv_iconst (v := 1) hx hb dX7_holds_146 (by decide) ?_
          refine zr_iaddN (44 + 6 * kk) 1 hx hb dX7_holds_147 ?_
          refine zr_val (v' := .int (nI (44 + 6 * kk + 1))) (by rfl) ?_
          refine zr_iald (44 + 6 * kk + 1) (v := m_at (44 + 6 * kk + 1)) hx hb hK hP 1 rfl rfl (Nat.le_of_ble_eq_true rfl) rfl (by omega) rfl dX7_holds_148 ?_
          refine lv_icmp_ne (tgt := 156) hx hb dX7_holds_149 (by decide) (fun c_5 => ?_) (fun c_5 => ?_)
          · refine lv_iconst (v := 0) hx hb dX7_holds_156 (by decide) ?_
            have e_ : mf_holds m_at m_beside Wd R kk = (false, m_beside) := by rw [mf_holds, if_neg c_1, if_neg c_2, if_neg c_3, if_neg c_4, if_neg c_5]
            exact zr_mz hx hb hr hlocks hP hD hS dX7_holds_157 rfl (by rw [e_]; rfl) (by rw [e_]) trivial
          · refine lv_iconst (v := 1) hx hb dX7_holds_152 (by decide) ?_
            refine lv_goto (tgt := 157) hx hb dX7_holds_153 (by decide) ?_
            have e_ : mf_holds m_at m_beside Wd R kk = (true, m_beside) := by rw [mf_holds, if_neg c_1, if_neg c_2, if_neg c_3, if_neg c_4, if_pos c_5]
            exact zr_mz hx hb hr hlocks hP hD hS dX7_holds_157 rfl (by rw [e_]; rfl) (by rw [e_]) trivial
        · refine lv_iload_n hx hb dX7_holds_120 rfl (lv_at hl 0 rfl) ?_
          refine lv_aload_n hx hb dX7_holds_121 rfl (lv_at hl 2 rfl) ?_
          refine va_get (D := G.1) (ci := 7) (v := .ref (ad 1)) (C := RX7) (T := TX7) (N := 39) hx hb hts in_X7 hown hK.1 hP 0 rfl rfl 0 (Nat.le_of_ble_eq_true rfl) (hts _ q1467) (fun _ h => h) rfl dX7_holds_122 ?_
          refine lv_iload_n hx hb dX7_holds_125 rfl (lv_at hl 3 rfl) ?_
          refine lv_iconst (v := 1) hx hb dX7_holds_126 (by decide) ?_
          refine zr_iaddN (44 + 6 * kk) 1 hx hb dX7_holds_127 ?_
          refine zr_val (v' := .int (nI (44 + 6 * kk + 1))) (by rfl) ?_
          refine zr_iald (44 + 6 * kk + 1) (v := m_at (44 + 6 * kk + 1)) hx hb hK hP 1 rfl rfl (Nat.le_of_ble_eq_true rfl) rfl (by omega) rfl dX7_holds_128 ?_
          refine lv_icmp_le (tgt := 136) hx hb dX7_holds_129 (by decide) (fun c_6 => ?_) (fun c_6 => ?_)
          · refine lv_iconst (v := 0) hx hb dX7_holds_136 (by decide) ?_
            refine lv_goto (tgt := 157) hx hb dX7_holds_137 (by decide) ?_
            have e_ : mf_holds m_at m_beside Wd R kk = (false, m_beside) := by rw [mf_holds, if_neg c_1, if_neg c_2, if_neg c_3, if_pos c_4, if_pos c_6]
            exact zr_mz hx hb hr hlocks hP hD hS dX7_holds_157 rfl (by rw [e_]; rfl) (by rw [e_]) trivial
          · refine lv_iconst (v := 1) hx hb dX7_holds_132 (by decide) ?_
            refine lv_goto (tgt := 157) hx hb dX7_holds_133 (by decide) ?_
            have e_ : mf_holds m_at m_beside Wd R kk = (true, m_beside) := by rw [mf_holds, if_neg c_1, if_neg c_2, if_neg c_3, if_pos c_4, if_neg c_6]
            exact zr_mz hx hb hr hlocks hP hD hS dX7_holds_157 rfl (by rw [e_]; rfl) (by rw [e_]) trivial
      · refine lv_iload_n hx hb dX7_holds_87 rfl (lv_at hl 0 rfl) ?_
        refine lv_aload_n hx hb dX7_holds_88 rfl (lv_at hl 2 rfl) ?_
        refine va_get (D := G.1) (ci := 7) (v := .ref (ad 1)) (C := RX7) (T := TX7) (N := 39) hx hb hts in_X7 hown hK.1 hP 0 rfl rfl 0 (Nat.le_of_ble_eq_true rfl) (hts _ q1467) (fun _ h => h) rfl dX7_holds_89 ?_
        refine lv_iload_n hx hb dX7_holds_92 rfl (lv_at hl 3 rfl) ?_
        refine lv_iconst (v := 1) hx hb dX7_holds_93 (by decide) ?_
        refine zr_iaddN (44 + 6 * kk) 1 hx hb dX7_holds_94 ?_
        refine zr_val (v' := .int (nI (44 + 6 * kk + 1))) (by rfl) ?_
        refine zr_iald (44 + 6 * kk + 1) (v := m_at (44 + 6 * kk + 1)) hx hb hK hP 1 rfl rfl (Nat.le_of_ble_eq_true rfl) rfl (by omega) rfl dX7_holds_95 ?_
        refine lv_icmp_ge (tgt := 103) hx hb dX7_holds_96 (by decide) (fun c_7 => ?_) (fun c_7 => ?_)
        · refine lv_iconst (v := 0) hx hb dX7_holds_103 (by decide) ?_
          refine lv_goto (tgt := 157) hx hb dX7_holds_104 (by decide) ?_
          have e_ : mf_holds m_at m_beside Wd R kk = (false, m_beside) := by rw [mf_holds, if_neg c_1, if_neg c_2, if_pos c_3, if_pos c_7]
          exact zr_mz hx hb hr hlocks hP hD hS dX7_holds_157 rfl (by rw [e_]; rfl) (by rw [e_]) trivial
        · refine lv_iconst (v := 1) hx hb dX7_holds_99 (by decide) ?_
          refine lv_goto (tgt := 157) hx hb dX7_holds_100 (by decide) ?_
          have e_ : mf_holds m_at m_beside Wd R kk = (true, m_beside) := by rw [mf_holds, if_neg c_1, if_neg c_2, if_pos c_3, if_neg c_7]
          exact zr_mz hx hb hr hlocks hP hD hS dX7_holds_157 rfl (by rw [e_]; rfl) (by rw [e_]) trivial
    · refine lv_aload_n hx hb dX7_holds_28 rfl (lv_at hl 1 rfl) ?_
      refine va_get (D := G.1) (ci := 7) (v := .ref (ad 1)) (C := RX7) (T := TX7) (N := 39) hx hb hts in_X7 hown hK.1 hP 0 rfl rfl 0 (Nat.le_of_ble_eq_true rfl) (hts _ q1467) (fun _ h => h) rfl dX7_holds_29 ?_
      refine lv_iconst (v := 3) hx hb dX7_holds_32 (by decide) ?_
      refine zr_iald 3 (v := m_at 3) hx hb hK hP 1 rfl rfl (Nat.le_of_ble_eq_true rfl) rfl (by decide) rfl dX7_holds_33 ?_
      refine lv_aload_n hx hb dX7_holds_34 rfl (lv_at hl 1 rfl) ?_
      refine lv_aload_n hx hb dX7_holds_35 rfl (lv_at hl 1 rfl) ?_
      refine va_get (D := G.1) (ci := 7) (v := .ref (ad 1)) (C := RX7) (T := TX7) (N := 39) hx hb hts in_X7 hown hK.1 hP 0 rfl rfl 0 (Nat.le_of_ble_eq_true rfl) (hts _ q1467) (fun _ h => h) rfl dX7_holds_36 ?_
      refine lv_iload_n hx hb dX7_holds_39 rfl (lv_at hl 2 rfl) ?_
      refine lv_iconst (v := 1) hx hb dX7_holds_40 (by decide) ?_
      refine zr_iaddN (44 + 6 * kk) 1 hx hb dX7_holds_41 ?_
      refine zr_val (v' := .int (nI (44 + 6 * kk + 1))) (by rfl) ?_
      refine zr_iald (44 + 6 * kk + 1) (v := m_at (44 + 6 * kk + 1)) hx hb hK hP 1 rfl rfl (Nat.le_of_ble_eq_true rfl) rfl (by omega) rfl dX7_holds_42 ?_
      refine lv_aload_n hx hb dX7_holds_43 rfl (lv_at hl 1 rfl) ?_
      refine va_get (D := G.1) (ci := 7) (v := .ref (ad 1)) (C := RX7) (T := TX7) (N := 39) hx hb hts in_X7 hown hK.1 hP 0 rfl rfl 0 (Nat.le_of_ble_eq_true rfl) (hts _ q1467) (fun _ h => h) rfl dX7_holds_44 ?_
      refine lv_iload_n hx hb dX7_holds_47 rfl (lv_at hl 2 rfl) ?_
      refine lv_iconst (v := 2) hx hb dX7_holds_48 (by decide) ?_
      refine zr_iaddN (44 + 6 * kk) 2 hx hb dX7_holds_49 ?_
      refine zr_val (v' := .int (nI (44 + 6 * kk + 2))) (by rfl) ?_
      refine zr_iald (44 + 6 * kk + 2) (v := m_at (44 + 6 * kk + 2)) hx hb hK hP 1 rfl rfl (Nat.le_of_ble_eq_true rfl) rfl (by omega) rfl dX7_holds_50 ?_
      refine zr_obV ⟨hx, hb, hml, hown, hts⟩ (mt_mf_bitOf l G ad m_status m_top m_bottom m_taped m_size m_token m_from m_end m_value m_faultKind m_faultPlace m_faults m_seen m_depth m_counted m_lead m_round m_tried m_triedMany m_drawn m_ranSteps m_isTold m_marks m_at m_names m_sort m_trayMany m_trays m_tape m_text m_opened m_beside m_then m_ways m_further m_canBe m_loops m_ran m_told0 Wd R nr nc (m_at (44 + 6 * kk + 1)) (m_at (44 + 6 * kk + 2)) (mYR_G hY)) (cwV 2 hts (lw_V q1807 q1809 qs95 q144 q1810) rfl rfl rfl hd_X7_bitOf ⟨(Nat.le_of_ble_eq_true rfl), (Nat.le_of_ble_eq_true rfl)⟩) hP hK (zE_o hE hS) 0 7 rfl rfl rfl hl.1 rfl (Nat.le_of_ble_eq_true rfl) dX7_holds_51 ⟨Nat.le_refl _, Nat.le_refl _⟩ ?_
      refine lv_iand hx hb dX7_holds_54 ?_
      refine lv_if_eq (tgt := 62) hx hb dX7_holds_55 (by decide) (fun c_8 => ?_) (fun c_8 => ?_)
      · refine lv_iconst (v := 0) hx hb dX7_holds_62 (by decide) ?_
        have e_ : mf_holds m_at m_beside Wd R kk = (false, m_beside) := by rw [mf_holds, if_neg c_1, if_pos c_2, if_pos c_8]
        exact zr_mz hx hb hr hlocks hP hD hS dX7_holds_63 rfl (by rw [e_]; rfl) (by rw [e_]) trivial
      · refine lv_iconst (v := 1) hx hb dX7_holds_58 (by decide) ?_
        refine lv_goto (tgt := 63) hx hb dX7_holds_59 (by decide) ?_
        have e_ : mf_holds m_at m_beside Wd R kk = (true, m_beside) := by rw [mf_holds, if_neg c_1, if_pos c_2, if_neg c_8]
        exact zr_mz hx hb hr hlocks hP hD hS dX7_holds_63 rfl (by rw [e_]; rfl) (by rw [e_]) trivial
  · refine lv_aload_n hx hb dX7_holds_17 rfl (lv_at hl 1 rfl) ?_
    refine zr_muV (F := mf_isStill m_at m_beside Wd R) (ff := fun t_9 => True) (rr := fun t_9 => some (.int (zb t_9.1))) (w1 := fun t_9 => (mW G ad m_status m_top m_bottom m_taped m_size m_token m_from m_end m_value m_faultKind m_faultPlace m_faults m_seen m_depth m_counted m_lead m_round m_tried m_triedMany m_drawn m_ranSteps m_isTold m_marks m_at m_names m_sort m_trayMany m_trays m_tape m_text m_opened t_9.2 m_then m_ways m_further m_canBe m_loops m_ran m_told0)) ⟨hx, hb, hml, hown, hts⟩ (mt_mf_isStill l G ad m_status m_top m_bottom m_taped m_size m_token m_from m_end m_value m_faultKind m_faultPlace m_faults m_seen m_depth m_counted m_lead m_round m_tried m_triedMany m_drawn m_ranSteps m_isTold m_marks m_at m_names m_sort m_trayMany m_trays m_tape m_text m_opened m_beside m_then m_ways m_further m_canBe m_loops m_ran m_told0 Wd R nr nc (mYR_G hY) H.size) (cwV 0 hts (lw_V q1930 q1932 qs110 q144 q1933) rfl rfl rfl hd_X7_isStill ⟨(Nat.le_of_ble_eq_true rfl), (Nat.le_of_ble_eq_true rfl)⟩) hP hD hS hA hK hE 0 7 rfl rfl rfl hl.1 rfl (Nat.le_of_ble_eq_true rfl) dX7_holds_18 ⟨Nat.le_refl _, Nat.le_refl _⟩ (fun t_9 ht_9 hft_9 H locs hP hD hS _ => ?_)
    refine W.eq (g2 := F0 m 21 ls [.int (zb t_9.1)]) rfl ?_
    have e_ : mf_holds m_at m_beside Wd R kk = (t_9.1, t_9.2) := by rw [mf_holds, if_pos c_1, zlet_eq ht_9]
    exact zr_mz hx hb hr hlocks hP hD hS dX7_holds_21 zb_nar (by rw [e_]) (by rw [e_]) trivial
