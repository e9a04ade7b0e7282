def mf_behindEnds_B2 (m_at : Nat → Int32) (m_loops : Nat → Int32) (nn : Nat) (fro : Nat) (s_1 : Nat × (Nat → Int32)) : (Nat × (Nat → Int32)) ⊕ (Nat × (Nat → Int32)) :=
  (if nn ≤ s_1.1 then
    .inr (s_1.1, s_1.2)
  else
    (if (m_at (44 + (6 * s_1.1))) = 17 then
      (if (m_at (44 + (6 * (((m_at (44 + (6 * s_1.1) + 4))).toNatClampNeg)))) = 16 then
        (if (s_1.2 (((m_at (44 + (6 * s_1.1) + 4))).toNatClampNeg)) ≤ 0 then
          .inl (s_1.1 + 1, upd s_1.2 (((m_at (44 + (6 * s_1.1) + 4))).toNatClampNeg) ((s_1.2 (((m_at (44 + (6 * s_1.1) + 4))).toNatClampNeg)) - 0))
        else
          .inl (((m_at (44 + (6 * s_1.1) + 4))).toNatClampNeg + 1, upd s_1.2 (((m_at (44 + (6 * s_1.1) + 4))).toNatClampNeg) ((s_1.2 (((m_at (44 + (6 * s_1.1) + 4))).toNatClampNeg)) - 1)))
      else
        .inl (s_1.1 + 1, upd s_1.2 (((m_at (44 + (6 * s_1.1) + 4))).toNatClampNeg) ((s_1.2 (((m_at (44 + (6 * s_1.1) + 4))).toNatClampNeg)) - 0)))
    else
      .inr (s_1.1, s_1.2)))
def mf_behindEnds_L2 (m_at : Nat → Int32) (m_loops : Nat → Int32) (nn : Nat) (fro : Nat) (s_1 : Nat × (Nat → Int32)) : Nat × (Nat → Int32) := zw (mf_behindEnds_B2 m_at m_loops nn fro) (s_1) ((zEm m_at s_1.2 nn s_1.1) + 1) s_1
def mf_behindEnds (m_at : Nat → Int32) (m_loops : Nat → Int32) (nn : Nat) (fro : Nat) : Nat × (Nat → Int32) :=
  zlet (mf_behindEnds_L2 m_at m_loops nn fro (fro, m_loops)) (fun t_1 =>
  (t_1.1, t_1.2))
theorem hd_X7_behindEnds : yX7_behindEnds.cls = RX7 ∧ yX7_behindEnds.cls ≠ "java/lang/invoke/MethodHandle" ∧ yX7_behindEnds.cls ≠ "java/lang/invoke/VarHandle" ∧ (parseMethodDescriptor yX7_behindEnds.desc).map (fun d => d.parameters.length) = some 1 := by decide +kernel
set_option maxHeartbeats 4000000 in
set_option maxRecDepth 100000 in
theorem mt_mf_behindEnds (l : Launch) (G : zG) (ad : Nat → Nat) (m_status : Int32) (m_top : Int64) (m_bottom : Int64) (m_taped : Int32) (m_size : Int32) (m_token : Int32) (m_from : Int32) (m_end : Int32) (m_value : Int32) (m_faultKind : Int32) (m_faultPlace : Int32) (m_faults : Int32) (m_seen : Int32) (m_depth : Int32) (m_counted : Int32) (m_lead : Int32) (m_round : Int32) (m_tried : Int32) (m_triedMany : Int32) (m_drawn : Int32) (m_ranSteps : Int32) (m_isTold : Bool) (m_marks : Int32) (m_at : Nat → Int32) (m_names : Nat → Int64) (m_sort : Nat → Int32) (m_trayMany : Nat → Int32) (m_trays : Nat → Int64) (m_tape : Nat → Int32) (m_text : Nat → Int32) (m_opened : Nat → Int32) (m_beside : Nat → Int32) (m_then : Nat → Int32) (m_ways : Nat → Int64) (m_further : Nat → Int64) (m_canBe : Nat → Int32) (m_loops : Nat → Int32) (m_ran : Nat → Int32) (m_told0 : Nat → Int32) (Wd : Nat) (R : Nat) (nr : Nat) (nc : Nat) (nn : Nat) (fro : Nat) (hY : mYR m_at Wd R nr nc nn) (hL : mLP m_loops) (hfo : fro ≤ 61) (sz : Nat) : Met l yX7_behindEnds (ws_ yX7_behindEnds cX7_behindEnds 5 (some .int)) (zR 1 0 0) (zPm G sz [.ref (ad 0), .int (nI fro)] (mW G ad m_status m_top m_bottom m_taped m_size m_token m_from m_end m_value m_faultKind m_faultPlace m_faults m_seen m_depth m_counted m_lead m_round m_tried m_triedMany m_drawn m_ranSteps m_isTold m_marks m_at m_names m_sort m_trayMany m_trays m_tape m_text m_opened m_beside m_then m_ways m_further m_canBe m_loops m_ran m_told0)) (zQm G (mLP ((mf_behindEnds m_at m_loops nn fro).2)  ∧ ((mf_behindEnds m_at m_loops nn fro).1) ≤ 61) (some (.int (nI ((mf_behindEnds m_at m_loops nn fro).1)))) (mW G ad m_status m_top m_bottom m_taped m_size m_token m_from m_end m_value m_faultKind m_faultPlace m_faults m_seen m_depth m_counted m_lead m_round m_tried m_triedMany m_drawn m_ranSteps m_isTold m_marks m_at m_names m_sort m_trayMany m_trays m_tape m_text m_opened m_beside m_then m_ways m_further m_canBe ((mf_behindEnds m_at m_loops nn fro).2) m_ran m_told0) (va_A (mW G ad m_status m_top m_bottom m_taped m_size m_token m_from m_end m_value m_faultKind m_faultPlace m_faults m_seen m_depth m_counted m_lead m_round m_tried m_triedMany m_drawn m_ranSteps m_isTold m_marks m_at m_names m_sort m_trayMany m_trays m_tape m_text m_opened m_beside m_then m_ways m_further m_canBe m_loops m_ran m_told0) sz)) 0 0 (va_A (mW G ad m_status m_top m_bottom m_taped m_size m_token m_from m_end m_value m_faultKind m_faultPlace m_faults m_seen m_depth m_counted m_lead m_round m_tried m_triedMany m_drawn m_ranSteps m_isTold m_marks m_at m_names m_sort m_trayMany m_trays m_tape m_text m_opened m_beside m_then m_ways m_further m_canBe m_loops m_ran m_told0) sz) := by
  refine zr_entM (by decide) (Nat.le_of_ble_eq_true rfl) ?_
  intro p e s m below meth c ⟨hx, hb, hr, hml, hown, hts, hlocks, hnm⟩ ls hl hP hK A hE hA hD hS
  have hown : s.vm.findClass RX7 = some m.cls := hown
  have hl : lv_has ls 5 [(0, .ref (ad 0)), (1, .int (nI fro))] := hl
  obtain ⟨H, hH⟩ : ∃ H, H = s.heap := ⟨_, rfl⟩
  obtain ⟨locs, hlo⟩ : ∃ L : List Loc, L = [] := ⟨_, rfl⟩
  rw [← hH] at hP
  have hS : va_S A s.heap H locs := by rw [hH, hlo]; exact va_S.rf
  have hgo : W p l e (zR 1 0 0) s m ([.ref (ad 0), .int (nI fro)] : List Value).toArray below meth c H locs 0 0 (MQ below (zQm G (mLP ((mf_behindEnds m_at m_loops nn fro).2)  ∧ ((mf_behindEnds m_at m_loops nn fro).1) ≤ 61) (some (.int (nI ((mf_behindEnds m_at m_loops nn fro).1)))) (mW G ad m_status m_top m_bottom m_taped m_size m_token m_from m_end m_value m_faultKind m_faultPlace m_faults m_seen m_depth m_counted m_lead m_round m_tried m_triedMany m_drawn m_ranSteps m_isTold m_marks m_at m_names m_sort m_trayMany m_trays m_tape m_text m_opened m_beside m_then m_ways m_further m_canBe ((mf_behindEnds m_at m_loops nn fro).2) m_ran m_told0) A) ([.ref (ad 0), .int (nI fro)] : List Value).toArray s 0 0 A) (F0 m 0 ls []) := ?_
  · rw [hH, hlo] at hgo; exact hgo
  clear hH hlo
  have hG := hY.1
  have hnn6 := hY.2.2.1
  have hWR := mOK_WR hG
  have hW0 := mOK_W0 hG
  have hW5 := mOK_W5 hG
  have hR0 := mOK_R0 hG
  have hR6 := mOK_R6 hG
  have hn4 := mOK_n4 hG
  have hc6 := mOK_c6 hG
  refine lv_iload_n hx hb dX7_behindEnds_0 rfl (lv_at hl 1 rfl) ?_
  refine lv_istore_n (lv' := [(2, .int (nI fro)), (0, .ref (ad 0)), (1, .int (nI fro))]) hx hb dX7_behindEnds_1 rfl hl (by decide) rfl (fun ls hl => ?_)
  have hx_1 : ∀ t_1 : Nat × (Nat → Int32), mf_behindEnds_L2 m_at m_loops nn fro (fro, m_loops) = t_1 → t_1.1 ≤ 61 → mLP t_1.2  → ∀ (H : Heap) (locs : List Loc), va_P G.1 zcl (mW G ad m_status m_top m_bottom m_taped m_size m_token m_from m_end m_value m_faultKind m_faultPlace m_faults m_seen m_depth m_counted m_lead m_round m_tried m_triedMany m_drawn m_ranSteps m_isTold m_marks m_at m_names m_sort m_trayMany m_trays m_tape m_text m_opened m_beside m_then m_ways m_further m_canBe t_1.2 m_ran m_told0) H → va_D A (mW G ad m_status m_top m_bottom m_taped m_size m_token m_from m_end m_value m_faultKind m_faultPlace m_faults m_seen m_depth m_counted m_lead m_round m_tried m_triedMany m_drawn m_ranSteps m_isTold m_marks m_at m_names m_sort m_trayMany m_trays m_tape m_text m_opened m_beside m_then m_ways m_further m_canBe t_1.2 m_ran m_told0) → va_S A s.heap H locs → ∀ ls : Array Slot, lv_has ls 5 [(2, .int (nI t_1.1))] → W p l e (zR 1 0 0) s m ([.ref (ad 0), .int (nI fro)] : List Value).toArray below meth c H locs 0 0 (MQ below (zQm G (mLP ((mf_behindEnds m_at m_loops nn fro).2)  ∧ ((mf_behindEnds m_at m_loops nn fro).1) ≤ 61) (some (.int (nI ((mf_behindEnds m_at m_loops nn fro).1)))) (mW G ad m_status m_top m_bottom m_taped m_size m_token m_from m_end m_value m_faultKind m_faultPlace m_faults m_seen m_depth m_counted m_lead m_round m_tried m_triedMany m_drawn m_ranSteps m_isTold m_marks m_at m_names m_sort m_trayMany m_trays m_tape m_text m_opened m_beside m_then m_ways m_further m_canBe ((mf_behindEnds m_at m_loops nn fro).2) m_ran m_told0) A) ([.ref (ad 0), .int (nI fro)] : List Value).toArray s 0 0 A) (F0 m 115 ls []) := by
    intro t_1 ht_1 hx2 okx_1_m_loops H locs hP hD hS ls hl
    refine lv_iload_n hx hb dX7_behindEnds_115 rfl (lv_at hl 0 rfl) ?_
    have e_ : mf_behindEnds m_at m_loops nn fro = (t_1.1, t_1.2) := by rw [mf_behindEnds, zlet_eq ht_1]
    exact zr_mi hx hb hr hlocks hP hD hS dX7_behindEnds_116 (by rw [e_])  (by rw [e_]) (by rw [e_]; exact ⟨okx_1_m_loops, (by first | rfl | exact Or.inl rfl | exact Or.inl (by assumption) | exact Or.inr (by assumption) | assumption | exact Or.inr (by dsimp only; omega) | omega | (dsimp only; omega) | (dsimp only; assumption))⟩)
  have hlp_1 : ∀ (n : Nat) (s_1 : Nat × (Nat → Int32)), zEm m_at s_1.2 nn s_1.1 < n → zw (mf_behindEnds_B2 m_at m_loops nn fro) (fro, m_loops) n s_1 = mf_behindEnds_L2 m_at m_loops nn fro (fro, m_loops) → s_1.1 ≤ 61 → mLP s_1.2  → ∀ (H : Heap) (locs : List Loc), va_P G.1 zcl (mW G ad m_status m_top m_bottom m_taped m_size m_token m_from m_end m_value m_faultKind m_faultPlace m_faults m_seen m_depth m_counted m_lead m_round m_tried m_triedMany m_drawn m_ranSteps m_isTold m_marks m_at m_names m_sort m_trayMany m_trays m_tape m_text m_opened m_beside m_then m_ways m_further m_canBe s_1.2 m_ran m_told0) H → va_D A (mW G ad m_status m_top m_bottom m_taped m_size m_token m_from m_end m_value m_faultKind m_faultPlace m_faults m_seen m_depth m_counted m_lead m_round m_tried m_triedMany m_drawn m_ranSteps m_isTold m_marks m_at m_names m_sort m_trayMany m_trays m_tape m_text m_opened m_beside m_then m_ways m_further m_canBe s_1.2 m_ran m_told0) → va_S A s.heap H locs → ∀ ls : Array Slot, lv_has ls 5 [(2, .int (nI s_1.1)), (0, .ref (ad 0))] → W p l e (zR 1 0 0) s m ([.ref (ad 0), .int (nI fro)] : List Value).toArray below meth c H locs 0 0 (MQ below (zQm G (mLP ((mf_behindEnds m_at m_loops nn fro).2)  ∧ ((mf_behindEnds m_at m_loops nn fro).1) ≤ 61) (some (.int (nI ((mf_behindEnds m_at m_loops nn fro).1)))) (mW G ad m_status m_top m_bottom m_taped m_size m_token m_from m_end m_value m_faultKind m_faultPlace m_faults m_seen m_depth m_counted m_lead m_round m_tried m_triedMany m_drawn m_ranSteps m_isTold m_marks m_at m_names m_sort m_trayMany m_trays m_tape m_text m_opened m_beside m_then m_ways m_further m_canBe ((mf_behindEnds m_at m_loops nn fro).2) m_ran m_told0) A) ([.ref (ad 0), .int (nI fro)] : List Value).toArray s 0 0 A) (F0 m 2 ls []) := by
    intro n
    induction n with
    | zero => exact fun _ h => absurd h (Nat.not_lt_zero _)
    | succ n ih_1 =>
      intro s_1 hmu_1 hR_1 hi2 ok_1_m_loops H locs hP hD hS ls hl
      refine lv_iload_n hx hb dX7_behindEnds_2 rfl (lv_at hl 0 rfl) ?_
      refine lv_aload_n hx hb dX7_behindEnds_3 rfl (lv_at hl 1 rfl) ?_
      refine va_get (D := G.1) (ci := 7) (v := .ref (ad 1)) (C := RX7) (T := TX7) (N := 39) hx hb hts in_X7 hown hK.1 hP 0 rfl rfl 0 (Nat.le_of_ble_eq_true rfl) (hts _ q1467) (fun _ h => h) rfl dX7_behindEnds_4 ?_
      refine lv_bipush (v := 11) hx hb dX7_behindEnds_7 (by decide) ?_
      refine zr_iald 11 (v := nI nn) hx hb hK hP 1 rfl rfl (Nat.le_of_ble_eq_true rfl) rfl (by decide) (mYR_n hY) dX7_behindEnds_9 ?_
      refine zr_ge s_1.1 nn (by omega) (by omega) (tgt := 115) hx hb dX7_behindEnds_10 (by decide) (fun c_2 => ?_) (fun c_2 => ?_)
      · exact hx_1 (s_1.1, s_1.2) (hR_1.symm.trans (zw_r (by rw [mf_behindEnds_B2, if_pos c_2]))) hi2 ok_1_m_loops H locs hP hD hS ls (lv_sub hl [0] rfl)
      · have hkn := Nat.lt_of_not_le c_2
        refine lv_aload_n hx hb dX7_behindEnds_13 rfl (lv_at hl 1 rfl) ?_
        refine va_get (D := G.1) (ci := 7) (v := .ref (ad 1)) (C := RX7) (T := TX7) (N := 39) hx hb hts in_X7 hown hK.1 hP 0 rfl rfl 0 (Nat.le_of_ble_eq_true rfl) (hts _ q1467) (fun _ h => h) rfl dX7_behindEnds_14 ?_
        refine lv_bipush (v := 44) hx hb dX7_behindEnds_17 (by decide) ?_
        refine lv_bipush (v := 6) hx hb dX7_behindEnds_19 (by decide) ?_
        refine lv_iload_n hx hb dX7_behindEnds_21 rfl (lv_at hl 0 rfl) ?_
        refine zr_imulN 6 s_1.1 hx hb dX7_behindEnds_22 ?_
        refine zr_iaddN 44 (6 * s_1.1) hx hb dX7_behindEnds_23 ?_
        refine zr_iald (44 + (6 * s_1.1)) (v := m_at (44 + (6 * s_1.1))) hx hb hK hP 1 rfl rfl (Nat.le_of_ble_eq_true rfl) rfl (by omega) rfl dX7_behindEnds_24 ?_
        refine lv_bipush (v := 17) hx hb dX7_behindEnds_25 (by decide) ?_
        refine lv_icmp_ne (tgt := 115) hx hb dX7_behindEnds_27 (by decide) (fun c_3 => ?_) (fun c_3 => ?_)
        · exact hx_1 (s_1.1, s_1.2) (hR_1.symm.trans (zw_r (by rw [mf_behindEnds_B2, if_neg c_2, if_neg c_3]))) hi2 ok_1_m_loops H locs hP hD hS ls (lv_sub hl [0] rfl)
        · have h17 := c_3
          have hro := (hY.2.2.2 _ hkn).2.2.2.1 h17
          refine lv_aload_n hx hb dX7_behindEnds_30 rfl (lv_at hl 1 rfl) ?_
          refine va_get (D := G.1) (ci := 7) (v := .ref (ad 1)) (C := RX7) (T := TX7) (N := 39) hx hb hts in_X7 hown hK.1 hP 0 rfl rfl 0 (Nat.le_of_ble_eq_true rfl) (hts _ q1467) (fun _ h => h) rfl dX7_behindEnds_31 ?_
          refine lv_bipush (v := 44) hx hb dX7_behindEnds_34 (by decide) ?_
          refine lv_bipush (v := 6) hx hb dX7_behindEnds_36 (by decide) ?_
          refine lv_iload_n hx hb dX7_behindEnds_38 rfl (lv_at hl 0 rfl) ?_
          refine zr_imulN 6 s_1.1 hx hb dX7_behindEnds_39 ?_
          refine zr_iaddN 44 (6 * s_1.1) hx hb dX7_behindEnds_40 ?_
          refine lv_iconst (v := 4) hx hb dX7_behindEnds_41 (by decide) ?_
          refine zr_iaddN (44 + (6 * s_1.1)) 4 hx hb dX7_behindEnds_42 ?_
          refine zr_val (v' := .int (nI (44 + (6 * s_1.1) + 4))) (by rfl) ?_
          refine zr_iald (44 + (6 * s_1.1) + 4) (v := nI (((m_at (44 + (6 * s_1.1) + 4))).toNatClampNeg)) hx hb hK hP 1 rfl rfl (Nat.le_of_ble_eq_true rfl) rfl (by omega) (z_nn hro.1) dX7_behindEnds_43 ?_
          refine lv_istore_n (lv' := [(3, .int (nI (((m_at (44 + (6 * s_1.1) + 4))).toNatClampNeg))), (2, .int (nI s_1.1)), (0, .ref (ad 0))]) hx hb dX7_behindEnds_44 rfl hl (by decide) rfl (fun ls hl => ?_)
          refine lv_aload_n hx hb dX7_behindEnds_45 rfl (lv_at hl 2 rfl) ?_
          refine va_get (D := G.1) (ci := 7) (v := .ref (ad 1)) (C := RX7) (T := TX7) (N := 39) hx hb hts in_X7 hown hK.1 hP 0 rfl rfl 0 (Nat.le_of_ble_eq_true rfl) (hts _ q1467) (fun _ h => h) rfl dX7_behindEnds_46 ?_
          refine lv_bipush (v := 44) hx hb dX7_behindEnds_49 (by decide) ?_
          refine lv_bipush (v := 6) hx hb dX7_behindEnds_51 (by decide) ?_
          refine lv_iload_n hx hb dX7_behindEnds_53 rfl (lv_at hl 0 rfl) ?_
          refine zr_imulN 6 (((m_at (44 + (6 * s_1.1) + 4))).toNatClampNeg) hx hb dX7_behindEnds_54 ?_
          refine zr_iaddN 44 (6 * (((m_at (44 + (6 * s_1.1) + 4))).toNatClampNeg)) hx hb dX7_behindEnds_55 ?_
          refine zr_iald (44 + (6 * (((m_at (44 + (6 * s_1.1) + 4))).toNatClampNeg))) (v := m_at (44 + (6 * (((m_at (44 + (6 * s_1.1) + 4))).toNatClampNeg)))) hx hb hK hP 1 rfl rfl (Nat.le_of_ble_eq_true rfl) rfl (by omega) rfl dX7_behindEnds_56 ?_
          refine lv_bipush (v := 16) hx hb dX7_behindEnds_57 (by decide) ?_
          refine lv_icmp_ne (tgt := 75) hx hb dX7_behindEnds_59 (by decide) (fun c_4 => ?_) (fun c_4 => ?_)
          · refine lv_iconst (v := 0) hx hb dX7_behindEnds_75 (by decide) ?_
            refine lv_istore (lv' := [(4, .int 0), (3, .int (nI (((m_at (44 + (6 * s_1.1) + 4))).toNatClampNeg))), (2, .int (nI s_1.1)), (0, .ref (ad 0))]) hx hb dX7_behindEnds_76 hl (by decide) rfl (fun ls hl => ?_)
            refine lv_aload_n hx hb dX7_behindEnds_78 rfl (lv_at hl 3 rfl) ?_
            refine va_get (D := G.1) (ci := 7) (v := .ref (ad 14)) (C := RX7) (T := TX7) (N := 39) hx hb hts in_X7 hown hK.1 hP 0 rfl rfl 34 (Nat.le_of_ble_eq_true rfl) (hts _ q1501) (fun _ h => h) rfl dX7_behindEnds_79 ?_
            refine lv_iload_n hx hb dX7_behindEnds_82 rfl (lv_at hl 1 rfl) ?_
            refine lv_dup2_11 hx hb dX7_behindEnds_83 rfl rfl ?_
            refine zr_iald (((m_at (44 + (6 * s_1.1) + 4))).toNatClampNeg) (v := s_1.2 (((m_at (44 + (6 * s_1.1) + 4))).toNatClampNeg)) hx hb hK hP 14 rfl rfl (Nat.le_of_ble_eq_true rfl) rfl (by omega) rfl dX7_behindEnds_84 ?_
            refine lv_iload hx hb dX7_behindEnds_85 (lv_at hl 0 rfl) ?_
            refine lv_if_eq (tgt := 94) hx hb dX7_behindEnds_87 (by decide) (fun _ => ?_) (fun z => absurd (by decide) z)
            refine lv_iconst (v := 0) hx hb dX7_behindEnds_94 (by decide) ?_
            refine lv_isub hx hb dX7_behindEnds_95 ?_
            refine zr_iast (((m_at (44 + (6 * s_1.1) + 4))).toNatClampNeg) (ws' := (mW G ad m_status m_top m_bottom m_taped m_size m_token m_from m_end m_value m_faultKind m_faultPlace m_faults m_seen m_depth m_counted m_lead m_round m_tried m_triedMany m_drawn m_ranSteps m_isTold m_marks m_at m_names m_sort m_trayMany m_trays m_tape m_text m_opened m_beside m_then m_ways m_further m_canBe (upd s_1.2 (((m_at (44 + (6 * s_1.1) + 4))).toNatClampNeg) ((s_1.2 (((m_at (44 + (6 * s_1.1) + 4))).toNatClampNeg)) - 0)) m_ran m_told0)) hx hb hK hP hD hS 14 rfl rfl (Nat.le_of_ble_eq_true rfl) rfl (by omega) rfl dX7_behindEnds_96 (fun H locs hP hD hS => ?_)
            refine lv_iload hx hb dX7_behindEnds_97 (lv_at hl 0 rfl) ?_
            refine lv_if_eq (tgt := 108) hx hb dX7_behindEnds_99 (by decide) (fun _ => ?_) (fun z => absurd (by decide) z)
            refine lv_iload_n hx hb dX7_behindEnds_108 rfl (lv_at hl 2 rfl) ?_
            refine lv_iconst (v := 1) hx hb dX7_behindEnds_109 (by decide) ?_
            refine zr_iaddN s_1.1 1 hx hb dX7_behindEnds_110 ?_
            refine lv_istore_n (lv' := [(2, .int (nI (s_1.1 + 1))), (4, .int 0), (3, .int (nI (((m_at (44 + (6 * s_1.1) + 4))).toNatClampNeg))), (0, .ref (ad 0))]) hx hb dX7_behindEnds_111 rfl hl (by decide) rfl (fun ls hl => ?_)
            refine lv_goto (tgt := 2) hx hb dX7_behindEnds_112 (by decide) ?_
            exact ih_1 (s_1.1 + 1, upd s_1.2 (((m_at (44 + (6 * s_1.1) + 4))).toNatClampNeg) ((s_1.2 (((m_at (44 + (6 * s_1.1) + 4))).toNatClampNeg)) - 0)) (by first | (have h0z := h0l; exact zEm_again hY (by assumption) hkn h17 h0z hmu_1) | exact zEm_on hY (by assumption) hkn h17 hmu_1) ((zw_l (by rw [mf_behindEnds_B2, if_neg c_2, if_pos c_3, if_neg c_4])).symm.trans hR_1) (by omega) (by first | (have h0z := hlv; exact mLP_u ok_1_m_loops h0z) | (have h0z := h0l; exact mLP_d ok_1_m_loops (by omega) h0z) | exact mLP_s ok_1_m_loops (by omega)) H locs hP hD hS ls (lv_sub hl [0, 3] rfl)
          · refine lv_aload_n hx hb dX7_behindEnds_62 rfl (lv_at hl 2 rfl) ?_
            refine va_get (D := G.1) (ci := 7) (v := .ref (ad 14)) (C := RX7) (T := TX7) (N := 39) hx hb hts in_X7 hown hK.1 hP 0 rfl rfl 34 (Nat.le_of_ble_eq_true rfl) (hts _ q1501) (fun _ h => h) rfl dX7_behindEnds_63 ?_
            refine lv_iload_n hx hb dX7_behindEnds_66 rfl (lv_at hl 0 rfl) ?_
            refine zr_iald (((m_at (44 + (6 * s_1.1) + 4))).toNatClampNeg) (v := s_1.2 (((m_at (44 + (6 * s_1.1) + 4))).toNatClampNeg)) hx hb hK hP 14 rfl rfl (Nat.le_of_ble_eq_true rfl) rfl (by omega) rfl dX7_behindEnds_67 ?_
            refine lv_if_le (tgt := 75) hx hb dX7_behindEnds_68 (by decide) (fun c_5 => ?_) (fun c_5 => ?_)
            · refine lv_iconst (v := 0) hx hb dX7_behindEnds_75 (by decide) ?_
              refine lv_istore (lv' := [(4, .int 0), (3, .int (nI (((m_at (44 + (6 * s_1.1) + 4))).toNatClampNeg))), (2, .int (nI s_1.1)), (0, .ref (ad 0))]) hx hb dX7_behindEnds_76 hl (by decide) rfl (fun ls hl => ?_)
              refine lv_aload_n hx hb dX7_behindEnds_78 rfl (lv_at hl 3 rfl) ?_
              refine va_get (D := G.1) (ci := 7) (v := .ref (ad 14)) (C := RX7) (T := TX7) (N := 39) hx hb hts in_X7 hown hK.1 hP 0 rfl rfl 34 (Nat.le_of_ble_eq_true rfl) (hts _ q1501) (fun _ h => h) rfl dX7_behindEnds_79 ?_
              refine lv_iload_n hx hb dX7_behindEnds_82 rfl (lv_at hl 1 rfl) ?_
              refine lv_dup2_11 hx hb dX7_behindEnds_83 rfl rfl ?_
              refine zr_iald (((m_at (44 + (6 * s_1.1) + 4))).toNatClampNeg) (v := s_1.2 (((m_at (44 + (6 * s_1.1) + 4))).toNatClampNeg)) hx hb hK hP 14 rfl rfl (Nat.le_of_ble_eq_true rfl) rfl (by omega) rfl dX7_behindEnds_84 ?_
              refine lv_iload hx hb dX7_behindEnds_85 (lv_at hl 0 rfl) ?_
              refine lv_if_eq (tgt := 94) hx hb dX7_behindEnds_87 (by decide) (fun _ => ?_) (fun z => absurd (by decide) z)
              refine lv_iconst (v := 0) hx hb dX7_behindEnds_94 (by decide) ?_
              refine lv_isub hx hb dX7_behindEnds_95 ?_
              refine zr_iast (((m_at (44 + (6 * s_1.1) + 4))).toNatClampNeg) (ws' := (mW G ad m_status m_top m_bottom m_taped m_size m_token m_from m_end m_value m_faultKind m_faultPlace m_faults m_seen m_depth m_counted m_lead m_round m_tried m_triedMany m_drawn m_ranSteps m_isTold m_marks m_at m_names m_sort m_trayMany m_trays m_tape m_text m_opened m_beside m_then m_ways m_further m_canBe (upd s_1.2 (((m_at (44 + (6 * s_1.1) + 4))).toNatClampNeg) ((s_1.2 (((m_at (44 + (6 * s_1.1) + 4))).toNatClampNeg)) - 0)) m_ran m_told0)) hx hb hK hP hD hS 14 rfl rfl (Nat.le_of_ble_eq_true rfl) rfl (by omega) rfl dX7_behindEnds_96 (fun H locs hP hD hS => ?_)
              refine lv_iload hx hb dX7_behindEnds_97 (lv_at hl 0 rfl) ?_
              refine lv_if_eq (tgt := 108) hx hb dX7_behindEnds_99 (by decide) (fun _ => ?_) (fun z => absurd (by decide) z)
              refine lv_iload_n hx hb dX7_behindEnds_108 rfl (lv_at hl 2 rfl) ?_
              refine lv_iconst (v := 1) hx hb dX7_behindEnds_109 (by decide) ?_
              refine zr_iaddN s_1.1 1 hx hb dX7_behindEnds_110 ?_
              refine lv_istore_n (lv' := [(2, .int (nI (s_1.1 + 1))), (4, .int 0), (3, .int (nI (((m_at (44 + (6 * s_1.1) + 4))).toNatClampNeg))), (0, .ref (ad 0))]) hx hb dX7_behindEnds_111 rfl hl (by decide) rfl (fun ls hl => ?_)
              refine lv_goto (tgt := 2) hx hb dX7_behindEnds_112 (by decide) ?_
              exact ih_1 (s_1.1 + 1, upd s_1.2 (((m_at (44 + (6 * s_1.1) + 4))).toNatClampNeg) ((s_1.2 (((m_at (44 + (6 * s_1.1) + 4))).toNatClampNeg)) - 0)) (by first | (have h0z := h0l; exact zEm_again hY (by assumption) hkn h17 h0z hmu_1) | exact zEm_on hY (by assumption) hkn h17 hmu_1) ((zw_l (by rw [mf_behindEnds_B2, if_neg c_2, if_pos c_3, if_pos c_4, if_pos c_5])).symm.trans hR_1) (by omega) (by first | (have h0z := hlv; exact mLP_u ok_1_m_loops h0z) | (have h0z := h0l; exact mLP_d ok_1_m_loops (by omega) h0z) | exact mLP_s ok_1_m_loops (by omega)) H locs hP hD hS ls (lv_sub hl [0, 3] rfl)
            · have h0l := Int32.not_le.mp c_5
              refine lv_iconst (v := 1) hx hb dX7_behindEnds_71 (by decide) ?_
              refine lv_goto (tgt := 76) hx hb dX7_behindEnds_72 (by decide) ?_
              refine lv_istore (lv' := [(4, .int 1), (3, .int (nI (((m_at (44 + (6 * s_1.1) + 4))).toNatClampNeg))), (2, .int (nI s_1.1)), (0, .ref (ad 0))]) hx hb dX7_behindEnds_76 hl (by decide) rfl (fun ls hl => ?_)
              refine lv_aload_n hx hb dX7_behindEnds_78 rfl (lv_at hl 3 rfl) ?_
              refine va_get (D := G.1) (ci := 7) (v := .ref (ad 14)) (C := RX7) (T := TX7) (N := 39) hx hb hts in_X7 hown hK.1 hP 0 rfl rfl 34 (Nat.le_of_ble_eq_true rfl) (hts _ q1501) (fun _ h => h) rfl dX7_behindEnds_79 ?_
              refine lv_iload_n hx hb dX7_behindEnds_82 rfl (lv_at hl 1 rfl) ?_
              refine lv_dup2_11 hx hb dX7_behindEnds_83 rfl rfl ?_
              refine zr_iald (((m_at (44 + (6 * s_1.1) + 4))).toNatClampNeg) (v := s_1.2 (((m_at (44 + (6 * s_1.1) + 4))).toNatClampNeg)) hx hb hK hP 14 rfl rfl (Nat.le_of_ble_eq_true rfl) rfl (by omega) rfl dX7_behindEnds_84 ?_
              refine lv_iload hx hb dX7_behindEnds_85 (lv_at hl 0 rfl) ?_
              refine lv_if_eq (tgt := 94) hx hb dX7_behindEnds_87 (by decide) (fun z => absurd z (by decide)) (fun _ => ?_)
              refine lv_iconst (v := 1) hx hb dX7_behindEnds_90 (by decide) ?_
              refine lv_goto (tgt := 95) hx hb dX7_behindEnds_91 (by decide) ?_
              refine lv_isub hx hb dX7_behindEnds_95 ?_
              refine zr_iast (((m_at (44 + (6 * s_1.1) + 4))).toNatClampNeg) (ws' := (mW G ad m_status m_top m_bottom m_taped m_size m_token m_from m_end m_value m_faultKind m_faultPlace m_faults m_seen m_depth m_counted m_lead m_round m_tried m_triedMany m_drawn m_ranSteps m_isTold m_marks m_at m_names m_sort m_trayMany m_trays m_tape m_text m_opened m_beside m_then m_ways m_further m_canBe (upd s_1.2 (((m_at (44 + (6 * s_1.1) + 4))).toNatClampNeg) ((s_1.2 (((m_at (44 + (6 * s_1.1) + 4))).toNatClampNeg)) - 1)) m_ran m_told0)) hx hb hK hP hD hS 14 rfl rfl (Nat.le_of_ble_eq_true rfl) rfl (by omega) rfl dX7_behindEnds_96 (fun H locs hP hD hS => ?_)
              refine lv_iload hx hb dX7_behindEnds_97 (lv_at hl 0 rfl) ?_
              refine lv_if_eq (tgt := 108) hx hb dX7_behindEnds_99 (by decide) (fun z => absurd z (by decide)) (fun _ => ?_)
              refine lv_iload_n hx hb dX7_behindEnds_102 rfl (lv_at hl 1 rfl) ?_
              refine lv_iconst (v := 1) hx hb dX7_behindEnds_103 (by decide) ?_
              refine zr_iaddN (((m_at (44 + (6 * s_1.1) + 4))).toNatClampNeg) 1 hx hb dX7_behindEnds_104 ?_
              refine zr_val (v' := .int (nI (((m_at (44 + (6 * s_1.1) + 4))).toNatClampNeg + 1))) (by rfl) ?_
              refine lv_goto (tgt := 111) hx hb dX7_behindEnds_105 (by decide) ?_
              refine lv_istore_n (lv' := [(2, .int (nI (((m_at (44 + (6 * s_1.1) + 4))).toNatClampNeg + 1))), (4, .int 1), (3, .int (nI (((m_at (44 + (6 * s_1.1) + 4))).toNatClampNeg))), (0, .ref (ad 0))]) hx hb dX7_behindEnds_111 rfl hl (by decide) rfl (fun ls hl => ?_)
              refine lv_goto (tgt := 2) hx hb dX7_behindEnds_112 (by decide) ?_
              exact ih_1 (((m_at (44 + (6 * s_1.1) + 4))).toNatClampNeg + 1, upd s_1.2 (((m_at (44 + (6 * s_1.1) + 4))).toNatClampNeg) ((s_1.2 (((m_at (44 + (6 * s_1.1) + 4))).toNatClampNeg)) - 1)) (by first | (have h0z := h0l; exact zEm_again hY (by assumption) hkn h17 h0z hmu_1) | exact zEm_on hY (by assumption) hkn h17 hmu_1) ((zw_l (by rw [mf_behindEnds_B2, if_neg c_2, if_pos c_3, if_pos c_4, if_neg c_5])).symm.trans hR_1) (by omega) (by first | (have h0z := hlv; exact mLP_u ok_1_m_loops h0z) | (have h0z := h0l; exact mLP_d ok_1_m_loops (by omega) h0z) | exact mLP_s ok_1_m_loops (by omega)) H locs hP hD hS ls (lv_sub hl [0, 3] rfl)
  exact hlp_1 _ (fro, m_loops) (Nat.lt_succ_self _) (by rw [mf_behindEnds_L2]) (by omega) hL H locs hP hD hS ls (lv_sub hl [0, 1] rfl)
def mf_lives_B12  (k_1 : Nat) (s_1 : (Nat → Int32)) : (Nat → Int32) :=
  upd s_1 k_1 0
def mf_lives_L12  (s_1 : (Nat → Int32)) : (Nat → Int32) := zf (mf_lives_B12 ) s_1 5
def mf_lives_B32 (Wd : Nat) (R : Nat) (nr : Nat) (nc : Nat) (nn : Nat) (s_2 : Nat × Int32 × Nat × (Nat → Int32) × (Nat → Int32) × (Nat → Int32) × (Nat → Int32)) : (Nat × Int32 × Nat × (Nat → Int32) × (Nat → Int32) × (Nat → Int32) × (Nat → Int32)) ⊕ ((Nat × Int32 × Nat × (Nat → Int32) × (Nat → Int32) × (Nat → Int32) × (Nat → Int32)) ⊕ (Int32 × Int32 × (Nat → Int32) × (Nat → Int32) × (Nat → Int32) × (Nat → Int32))) :=
  (if nn ≤ s_2.1 then
    .inr (.inl (s_2.1, s_2.2.1, s_2.2.2.1, s_2.2.2.2.1, s_2.2.2.2.2.1, s_2.2.2.2.2.2.1, s_2.2.2.2.2.2.2))
  else
    (if s_2.2.2.1 = 300 then
      .inr (.inr (s_2.2.1, nI s_2.2.2.1, s_2.2.2.2.1, s_2.2.2.2.2.1, s_2.2.2.2.2.2.1, upd s_2.2.2.2.2.2.2 4 1))
    else
      (if (s_2.2.2.2.1 (44 + (6 * s_2.1))) = 18 then
        .inr (.inr (s_2.2.1, nI (s_2.2.2.1 + 1), s_2.2.2.2.1, s_2.2.2.2.2.1, s_2.2.2.2.2.2.1, s_2.2.2.2.2.2.2))
      else
        zlet (mf_does s_2.2.1 s_2.2.2.2.1 s_2.2.2.2.2.1 s_2.2.2.2.2.2.2 Wd R nr nc s_2.1) (fun t_6 =>
        (if t_6.1 = true then
          (if (t_6.2.2.1 (44 + (6 * s_2.1))) = 16 then
            (if (t_6.2.2.1 (44 + (6 * s_2.1))) < 1500 then
              zlet (mf_behindEnds t_6.2.2.1 (upd s_2.2.2.2.2.2.1 s_2.1 ((t_6.2.2.1 (44 + (6 * s_2.1) + 1)) - 1)) nn (s_2.1 + 1)) (fun t_29 =>
              .inl (t_29.1, t_6.2.1, s_2.2.2.1 + 1, t_6.2.2.1, t_6.2.2.2.1, t_29.2, upd t_6.2.2.2.2 0 ((s_2.2.2.2.2.2.2 0) + 0)))
            else
              zlet (mf_holds t_6.2.2.1 t_6.2.2.2.1 Wd R s_2.1) (fun t_30 =>
              (if t_30.1 = true then
                zlet (mf_behindEnds t_6.2.2.1 (upd s_2.2.2.2.2.2.1 s_2.1 ((t_6.2.2.1 (44 + (6 * s_2.1) + 1)) - 1)) nn (s_2.1 + 1)) (fun t_32 =>
                .inl (t_32.1, t_6.2.1, s_2.2.2.1 + 1, t_6.2.2.1, t_30.2, t_32.2, upd t_6.2.2.2.2 0 ((s_2.2.2.2.2.2.2 0) + 0)))
              else
                zlet (mf_behindEnds t_6.2.2.1 (upd s_2.2.2.2.2.2.1 s_2.1 ((t_6.2.2.1 (44 + (6 * s_2.1) + 1)) - 1)) nn (((t_6.2.2.1 (44 + (6 * s_2.1) + 4))).toNatClampNeg + 1)) (fun t_33 =>
                .inl (t_33.1, t_6.2.1, s_2.2.2.1 + 1, t_6.2.2.1, t_30.2, t_33.2, upd t_6.2.2.2.2 0 ((s_2.2.2.2.2.2.2 0) + 0))))))
          else
            (if (t_6.2.2.1 (44 + (6 * s_2.1))) < 1500 then
              zlet (mf_behindEnds t_6.2.2.1 s_2.2.2.2.2.2.1 nn (s_2.1 + 1)) (fun t_23 =>
              .inl (t_23.1, t_6.2.1, s_2.2.2.1 + 1, t_6.2.2.1, t_6.2.2.2.1, t_23.2, upd t_6.2.2.2.2 0 ((s_2.2.2.2.2.2.2 0) + 0)))
            else
              zlet (mf_holds t_6.2.2.1 t_6.2.2.2.1 Wd R s_2.1) (fun t_24 =>
              (if t_24.1 = true then
                zlet (mf_behindEnds t_6.2.2.1 s_2.2.2.2.2.2.1 nn (s_2.1 + 1)) (fun t_26 =>
                .inl (t_26.1, t_6.2.1, s_2.2.2.1 + 1, t_6.2.2.1, t_24.2, t_26.2, upd t_6.2.2.2.2 0 ((s_2.2.2.2.2.2.2 0) + 0)))
              else
                zlet (mf_behindEnds t_6.2.2.1 s_2.2.2.2.2.2.1 nn (((t_6.2.2.1 (44 + (6 * s_2.1) + 4))).toNatClampNeg + 1)) (fun t_27 =>
                .inl (t_27.1, t_6.2.1, s_2.2.2.1 + 1, t_6.2.2.1, t_24.2, t_27.2, upd t_6.2.2.2.2 0 ((s_2.2.2.2.2.2.2 0) + 0)))))))
        else
          (if (t_6.2.2.1 (44 + (6 * s_2.1))) = 16 then
            (if (t_6.2.2.1 (44 + (6 * s_2.1))) < 1500 then
              zlet (mf_behindEnds t_6.2.2.1 (upd s_2.2.2.2.2.2.1 s_2.1 ((t_6.2.2.1 (44 + (6 * s_2.1) + 1)) - 1)) nn (s_2.1 + 1)) (fun t_16 =>
              .inl (t_16.1, t_6.2.1, s_2.2.2.1 + 1, t_6.2.2.1, t_6.2.2.2.1, t_16.2, upd t_6.2.2.2.2 0 ((s_2.2.2.2.2.2.2 0) + 1)))
            else
              zlet (mf_holds t_6.2.2.1 t_6.2.2.2.1 Wd R s_2.1) (fun t_17 =>
              (if t_17.1 = true then
                zlet (mf_behindEnds t_6.2.2.1 (upd s_2.2.2.2.2.2.1 s_2.1 ((t_6.2.2.1 (44 + (6 * s_2.1) + 1)) - 1)) nn (s_2.1 + 1)) (fun t_19 =>
                .inl (t_19.1, t_6.2.1, s_2.2.2.1 + 1, t_6.2.2.1, t_17.2, t_19.2, upd t_6.2.2.2.2 0 ((s_2.2.2.2.2.2.2 0) + 1)))
              else
                zlet (mf_behindEnds t_6.2.2.1 (upd s_2.2.2.2.2.2.1 s_2.1 ((t_6.2.2.1 (44 + (6 * s_2.1) + 1)) - 1)) nn (((t_6.2.2.1 (44 + (6 * s_2.1) + 4))).toNatClampNeg + 1)) (fun t_20 =>
                .inl (t_20.1, t_6.2.1, s_2.2.2.1 + 1, t_6.2.2.1, t_17.2, t_20.2, upd t_6.2.2.2.2 0 ((s_2.2.2.2.2.2.2 0) + 1))))))
          else
            (if (t_6.2.2.1 (44 + (6 * s_2.1))) < 1500 then
              zlet (mf_behindEnds t_6.2.2.1 s_2.2.2.2.2.2.1 nn (s_2.1 + 1)) (fun t_10 =>
              .inl (t_10.1, t_6.2.1, s_2.2.2.1 + 1, t_6.2.2.1, t_6.2.2.2.1, t_10.2, upd t_6.2.2.2.2 0 ((s_2.2.2.2.2.2.2 0) + 1)))
            else
              zlet (mf_holds t_6.2.2.1 t_6.2.2.2.1 Wd R s_2.1) (fun t_11 =>
              (if t_11.1 = true then
                zlet (mf_behindEnds t_6.2.2.1 s_2.2.2.2.2.2.1 nn (s_2.1 + 1)) (fun t_13 =>
                .inl (t_13.1, t_6.2.1, s_2.2.2.1 + 1, t_6.2.2.1, t_11.2, t_13.2, upd t_6.2.2.2.2 0 ((s_2.2.2.2.2.2.2 0) + 1)))
              else
                zlet (mf_behindEnds t_6.2.2.1 s_2.2.2.2.2.2.1 nn (((t_6.2.2.1 (44 + (6 * s_2.1) + 4))).toNatClampNeg + 1)) (fun t_14 =>
                .inl (t_14.1, t_6.2.1, s_2.2.2.1 + 1, t_6.2.2.1, t_11.2, t_14.2, upd t_6.2.2.2.2 0 ((s_2.2.2.2.2.2.2 0) + 1))))))))))))
def mf_lives_L32 (Wd : Nat) (R : Nat) (nr : Nat) (nc : Nat) (nn : Nat) (s_2 : Nat × Int32 × Nat × (Nat → Int32) × (Nat → Int32) × (Nat → Int32) × (Nat → Int32)) : (Nat × Int32 × Nat × (Nat → Int32) × (Nat → Int32) × (Nat → Int32) × (Nat → Int32)) ⊕ (Int32 × Int32 × (Nat → Int32) × (Nat → Int32) × (Nat → Int32) × (Nat → Int32)) := zw (mf_lives_B32 Wd R nr nc nn) (.inl s_2) ((300 - s_2.2.2.1) + 1) s_2
def mf_lives (m_at : Nat → Int32) (m_beside : Nat → Int32) (m_loops : Nat → Int32) (m_ran : Nat → Int32) (Wd : Nat) (R : Nat) (nr : Nat) (nc : Nat) (nn : Nat) (seed : Int32) : Int32 × Int32 × (Nat → Int32) × (Nat → Int32) × (Nat → Int32) × (Nat → Int32) :=
  zlet (mf_lives_L12  m_ran) (fun s_1 =>
  zcase (mf_lives_L32 Wd R nr nc nn (0, seed, 0, m_at, m_beside, m_loops, s_1)) (fun t_2 =>
  (t_2.2.1, nI t_2.2.2.1, t_2.2.2.2.1, t_2.2.2.2.2.1, t_2.2.2.2.2.2.1, t_2.2.2.2.2.2.2)) (fun r => r))
theorem hd_X7_lives : yX7_lives.cls = RX7 ∧ yX7_lives.cls ≠ "java/lang/invoke/MethodHandle" ∧ yX7_lives.cls ≠ "java/lang/invoke/VarHandle" ∧ (parseMethodDescriptor yX7_lives.desc).map (fun d => d.parameters.length) = some 1 := by decide +kernel
set_option maxHeartbeats 4000000 in
set_option maxRecDepth 100000 in
theorem mt_mf_lives (l : Launch) (G : zG) (ad : Nat → Nat) (m_status : Int32) (m_top : Int64) (m_bottom : Int64) (m_taped : Int32) (m_size : Int32) (m_token : Int32) (m_from : Int32) (m_end : Int32) (m_value : Int32) (m_faultKind : Int32) (m_faultPlace : Int32) (m_faults : Int32) (m_seen : Int32) (m_depth : Int32) (m_counted : Int32) (m_lead : Int32) (m_round : Int32) (m_tried : Int32) (m_triedMany : Int32) (m_drawn : Int32) (m_ranSteps : Int32) (m_isTold : Bool) (m_marks : Int32) (m_at : Nat → Int32) (m_names : Nat → Int64) (m_sort : Nat → Int32) (m_trayMany : Nat → Int32) (m_trays : Nat → Int64) (m_tape : Nat → Int32) (m_text : Nat → Int32) (m_opened : Nat → Int32) (m_beside : Nat → Int32) (m_then : Nat → Int32) (m_ways : Nat → Int64) (m_further : Nat → Int64) (m_canBe : Nat → Int32) (m_loops : Nat → Int32) (m_ran : Nat → Int32) (m_told0 : Nat → Int32) (Wd : Nat) (R : Nat) (nr : Nat) (nc : Nat) (nn : Nat) (seed : Int32) (hY : mYR m_at Wd R nr nc nn) (hL : mLP m_loops) (sz : Nat) : Met l yX7_lives (ws_ yX7_lives cX7_lives 4 none) (zR 8 0 0) (zPm G sz [.ref (ad 0), .int seed] (mW G ad m_status m_top m_bottom m_taped m_size m_token m_from m_end m_value m_faultKind m_faultPlace m_faults m_seen m_depth m_counted m_lead m_round m_tried m_triedMany m_drawn m_ranSteps m_isTold m_marks m_at m_names m_sort m_trayMany m_trays m_tape m_text m_opened m_beside m_then m_ways m_further m_canBe m_loops m_ran m_told0)) (zQm G (mYR ((mf_lives m_at m_beside m_loops m_ran Wd R nr nc nn seed).2.2.1) Wd R nr nc nn ∧ mLP ((mf_lives m_at m_beside m_loops m_ran Wd R nr nc nn seed).2.2.2.2.1) ) none (mW G ad m_status m_top m_bottom m_taped m_size m_token m_from m_end m_value m_faultKind m_faultPlace m_faults m_seen m_depth m_counted m_lead m_round m_tried m_triedMany ((mf_lives m_at m_beside m_loops m_ran Wd R nr nc nn seed).1) ((mf_lives m_at m_beside m_loops m_ran Wd R nr nc nn seed).2.1) m_isTold m_marks ((mf_lives m_at m_beside m_loops m_ran Wd R nr nc nn seed).2.2.1) m_names m_sort m_trayMany m_trays m_tape m_text m_opened ((mf_lives m_at m_beside m_loops m_ran Wd R nr nc nn seed).2.2.2.1) m_then m_ways m_further m_canBe ((mf_lives m_at m_beside m_loops m_ran Wd R nr nc nn seed).2.2.2.2.1) ((mf_lives m_at m_beside m_loops m_ran Wd R nr nc nn seed).2.2.2.2.2) m_told0) (va_A (mW G ad m_status m_top m_bottom m_taped m_size m_token m_from m_end m_value m_faultKind m_faultPlace m_faults m_seen m_depth m_counted m_lead m_round m_tried m_triedMany m_drawn m_ranSteps m_isTold m_marks m_at m_names m_sort m_trayMany m_trays m_tape m_text m_opened m_beside m_then m_ways m_further m_canBe m_loops m_ran m_told0) sz)) 0 0 (va_A (mW G ad m_status m_top m_bottom m_taped m_size m_token m_from m_end m_value m_faultKind m_faultPlace m_faults m_seen m_depth m_counted m_lead m_round m_tried m_triedMany m_drawn m_ranSteps m_isTold m_marks m_at m_names m_sort m_trayMany m_trays m_tape m_text m_opened m_beside m_then m_ways m_further m_canBe m_loops m_ran m_told0) sz) := by
  refine zr_entM (by decide) (Nat.le_of_ble_eq_true rfl) ?_
  intro p e s m below meth c ⟨hx, hb, hr, hml, hown, hts, hlocks, hnm⟩ ls hl hP hK A hE hA hD hS
  have hown : s.vm.findClass RX7 = some m.cls := hown
  have hl : lv_has ls 4 [(0, .ref (ad 0)), (1, .int seed)] := hl
  obtain ⟨H, hH⟩ : ∃ H, H = s.heap := ⟨_, rfl⟩
  obtain ⟨locs, hlo⟩ : ∃ L : List Loc, L = [] := ⟨_, rfl⟩
  rw [← hH] at hP
  have hS : va_S A s.heap H locs := by rw [hH, hlo]; exact va_S.rf
  have hgo : W p l e (zR 8 0 0) s m ([.ref (ad 0), .int seed] : List Value).toArray below meth c H locs 0 0 (MQ below (zQm G (mYR ((mf_lives m_at m_beside m_loops m_ran Wd R nr nc nn seed).2.2.1) Wd R nr nc nn ∧ mLP ((mf_lives m_at m_beside m_loops m_ran Wd R nr nc nn seed).2.2.2.2.1) ) none (mW G ad m_status m_top m_bottom m_taped m_size m_token m_from m_end m_value m_faultKind m_faultPlace m_faults m_seen m_depth m_counted m_lead m_round m_tried m_triedMany ((mf_lives m_at m_beside m_loops m_ran Wd R nr nc nn seed).1) ((mf_lives m_at m_beside m_loops m_ran Wd R nr nc nn seed).2.1) m_isTold m_marks ((mf_lives m_at m_beside m_loops m_ran Wd R nr nc nn seed).2.2.1) m_names m_sort m_trayMany m_trays m_tape m_text m_opened ((mf_lives m_at m_beside m_loops m_ran Wd R nr nc nn seed).2.2.2.1) m_then m_ways m_further m_canBe ((mf_lives m_at m_beside m_loops m_ran Wd R nr nc nn seed).2.2.2.2.1) ((mf_lives m_at m_beside m_loops m_ran Wd R nr nc nn seed).2.2.2.2.2) m_told0) A) ([.ref (ad 0), .int seed] : List Value).toArray s 0 0 A) (F0 m 0 ls []) := ?_
  · rw [hH, hlo] at hgo; exact hgo
  clear hH hlo
  have hG := hY.1
  have hnn6 := hY.2.2.1
  have hWR := mOK_WR hG
  have hW0 := mOK_W0 hG
  have hW5 := mOK_W5 hG
  have hR0 := mOK_R0 hG
  have hR6 := mOK_R6 hG
  have hn4 := mOK_n4 hG
  have hc6 := mOK_c6 hG
  refine lv_aload_n hx hb dX7_lives_0 rfl (lv_at hl 0 rfl) ?_
  refine lv_iload_n hx hb dX7_lives_1 rfl (lv_at hl 1 rfl) ?_
  refine va_put (D := G.1) (ci := 7) (v := .int seed) (ty := .int) (C := RX7) (T := TX7) (N := 39) hx hb hts in_X7 tyX7 tyX7_ok nmX7 hown hK.1 hP hD hS 0 rfl rfl 32 (Nat.le_of_ble_eq_true rfl) (hts _ q1499) (fun _ h => h) rfl (tyX7_ok 32 (Nat.le_of_ble_eq_true rfl)) rfl rfl (Nat.le_of_ble_eq_true rfl) dX7_lives_2 (fun H locs hP hD hS => ?_)
  have hP : va_P G.1 zcl (mW G ad m_status m_top m_bottom m_taped m_size m_token m_from m_end m_value m_faultKind m_faultPlace m_faults m_seen m_depth m_counted m_lead m_round m_tried m_triedMany seed m_ranSteps m_isTold m_marks m_at m_names m_sort m_trayMany m_trays m_tape m_text m_opened m_beside m_then m_ways m_further m_canBe m_loops m_ran m_told0) H := hP
  have hD : va_D A (mW G ad m_status m_top m_bottom m_taped m_size m_token m_from m_end m_value m_faultKind m_faultPlace m_faults m_seen m_depth m_counted m_lead m_round m_tried m_triedMany seed m_ranSteps m_isTold m_marks m_at m_names m_sort m_trayMany m_trays m_tape m_text m_opened m_beside m_then m_ways m_further m_canBe m_loops m_ran m_told0) := hD
  refine lv_aload_n hx hb dX7_lives_5 rfl (lv_at hl 0 rfl) ?_
  refine lv_iconst (v := 0) hx hb dX7_lives_6 (by decide) ?_
  refine va_put (D := G.1) (ci := 7) (v := .int 0) (ty := .int) (C := RX7) (T := TX7) (N := 39) hx hb hts in_X7 tyX7 tyX7_ok nmX7 hown hK.1 hP hD hS 0 rfl rfl 33 (Nat.le_of_ble_eq_true rfl) (hts _ q1500) (fun _ h => h) rfl (tyX7_ok 33 (Nat.le_of_ble_eq_true rfl)) rfl rfl (Nat.le_of_ble_eq_true rfl) dX7_lives_7 (fun H locs hP hD hS => ?_)
  have hP : va_P G.1 zcl (mW G ad m_status m_top m_bottom m_taped m_size m_token m_from m_end m_value m_faultKind m_faultPlace m_faults m_seen m_depth m_counted m_lead m_round m_tried m_triedMany seed 0 m_isTold m_marks m_at m_names m_sort m_trayMany m_trays m_tape m_text m_opened m_beside m_then m_ways m_further m_canBe m_loops m_ran m_told0) H := hP
  have hD : va_D A (mW G ad m_status m_top m_bottom m_taped m_size m_token m_from m_end m_value m_faultKind m_faultPlace m_faults m_seen m_depth m_counted m_lead m_round m_tried m_triedMany seed 0 m_isTold m_marks m_at m_names m_sort m_trayMany m_trays m_tape m_text m_opened m_beside m_then m_ways m_further m_canBe m_loops m_ran m_told0) := hD
  refine lv_iconst (v := 0) hx hb dX7_lives_10 (by decide) ?_
  refine lv_istore_n (lv' := [(2, .int 0), (0, .ref (ad 0)), (1, .int seed)]) hx hb dX7_lives_11 rfl hl (by decide) rfl (fun ls hl => ?_)
  have hlp_1 : ∀ (n k_1 : Nat) (s_1 : (Nat → Int32)), k_1 ≤ 5 → 5 < k_1 + n → zf (mf_lives_B12 ) m_ran k_1 = s_1 → ∀ (H : Heap) (locs : List Loc), va_P G.1 zcl (mW G ad m_status m_top m_bottom m_taped m_size m_token m_from m_end m_value m_faultKind m_faultPlace m_faults m_seen m_depth m_counted m_lead m_round m_tried m_triedMany seed 0 m_isTold m_marks m_at m_names m_sort m_trayMany m_trays m_tape m_text m_opened m_beside m_then m_ways m_further m_canBe m_loops s_1 m_told0) H → va_D A (mW G ad m_status m_top m_bottom m_taped m_size m_token m_from m_end m_value m_faultKind m_faultPlace m_faults m_seen m_depth m_counted m_lead m_round m_tried m_triedMany seed 0 m_isTold m_marks m_at m_names m_sort m_trayMany m_trays m_tape m_text m_opened m_beside m_then m_ways m_further m_canBe m_loops s_1 m_told0) → va_S A s.heap H locs → ∀ ls : Array Slot, lv_has ls 4 [(2, .int (nI k_1)), (0, .ref (ad 0))] → W p l e (zR 8 0 0) s m ([.ref (ad 0), .int seed] : List Value).toArray below meth c H locs 0 0 (MQ below (zQm G (mYR ((mf_lives m_at m_beside m_loops m_ran Wd R nr nc nn seed).2.2.1) Wd R nr nc nn ∧ mLP ((mf_lives m_at m_beside m_loops m_ran Wd R nr nc nn seed).2.2.2.2.1) ) none (mW G ad m_status m_top m_bottom m_taped m_size m_token m_from m_end m_value m_faultKind m_faultPlace m_faults m_seen m_depth m_counted m_lead m_round m_tried m_triedMany ((mf_lives m_at m_beside m_loops m_ran Wd R nr nc nn seed).1) ((mf_lives m_at m_beside m_loops m_ran Wd R nr nc nn seed).2.1) m_isTold m_marks ((mf_lives m_at m_beside m_loops m_ran Wd R nr nc nn seed).2.2.1) m_names m_sort m_trayMany m_trays m_tape m_text m_opened ((mf_lives m_at m_beside m_loops m_ran Wd R nr nc nn seed).2.2.2.1) m_then m_ways m_further m_canBe ((mf_lives m_at m_beside m_loops m_ran Wd R nr nc nn seed).2.2.2.2.1) ((mf_lives m_at m_beside m_loops m_ran Wd R nr nc nn seed).2.2.2.2.2) m_told0) A) ([.ref (ad 0), .int seed] : List Value).toArray s 0 0 A) (F0 m 12 ls []) := by
    intro n
    induction n with
    | zero => intro k_1 s_1 h1 h2; exact absurd h2 (by omega)
    | succ n ih_1 =>
      intro k_1 s_1 hk_1 hn_1 hst_1 H locs hP hD hS ls hl
      refine lv_iload_n hx hb dX7_lives_12 rfl (lv_at hl 0 rfl) ?_
      refine lv_iconst (v := 5) hx hb dX7_lives_13 (by decide) ?_
      refine zr_ge k_1 5 (by omega) (by decide) (tgt := 30) hx hb dX7_lives_14 (by decide) (fun c_1 => ?_) (fun c_1 => ?_)
      · have ek_1 : k_1 = 5 := Nat.le_antisymm hk_1 c_1
        have hs_1 : mf_lives_L12  m_ran = s_1 := by rw [ek_1] at hst_1; exact hst_1
        have hl := lv_sub hl (l' := _) [1] rfl
        refine lv_iconst (v := 0) hx hb dX7_lives_30 (by decide) ?_
        refine lv_istore_n (lv' := [(2, .int 0), (0, .ref (ad 0))]) hx hb dX7_lives_31 rfl hl (by decide) rfl (fun ls hl => ?_)
        have hx_2 : ∀ t_2 : Nat × Int32 × Nat × (Nat → Int32) × (Nat → Int32) × (Nat → Int32) × (Nat → Int32), mf_lives_L32 Wd R nr nc nn (0, seed, 0, m_at, m_beside, m_loops, s_1) = .inl t_2 → mYR t_2.2.2.2.1 Wd R nr nc nn → mLP t_2.2.2.2.2.2.1  → ∀ (H : Heap) (locs : List Loc), va_P G.1 zcl (mW G ad m_status m_top m_bottom m_taped m_size m_token m_from m_end m_value m_faultKind m_faultPlace m_faults m_seen m_depth m_counted m_lead m_round m_tried m_triedMany t_2.2.1 (nI t_2.2.2.1) m_isTold m_marks t_2.2.2.2.1 m_names m_sort m_trayMany m_trays m_tape m_text m_opened t_2.2.2.2.2.1 m_then m_ways m_further m_canBe t_2.2.2.2.2.2.1 t_2.2.2.2.2.2.2 m_told0) H → va_D A (mW G ad m_status m_top m_bottom m_taped m_size m_token m_from m_end m_value m_faultKind m_faultPlace m_faults m_seen m_depth m_counted m_lead m_round m_tried m_triedMany t_2.2.1 (nI t_2.2.2.1) m_isTold m_marks t_2.2.2.2.1 m_names m_sort m_trayMany m_trays m_tape m_text m_opened t_2.2.2.2.2.1 m_then m_ways m_further m_canBe t_2.2.2.2.2.2.1 t_2.2.2.2.2.2.2 m_told0) → va_S A s.heap H locs → ∀ ls : Array Slot, lv_has ls 4 [] → W p l e (zR 8 0 0) s m ([.ref (ad 0), .int seed] : List Value).toArray below meth c H locs 0 0 (MQ below (zQm G (mYR ((mf_lives m_at m_beside m_loops m_ran Wd R nr nc nn seed).2.2.1) Wd R nr nc nn ∧ mLP ((mf_lives m_at m_beside m_loops m_ran Wd R nr nc nn seed).2.2.2.2.1) ) none (mW G ad m_status m_top m_bottom m_taped m_size m_token m_from m_end m_value m_faultKind m_faultPlace m_faults m_seen m_depth m_counted m_lead m_round m_tried m_triedMany ((mf_lives m_at m_beside m_loops m_ran Wd R nr nc nn seed).1) ((mf_lives m_at m_beside m_loops m_ran Wd R nr nc nn seed).2.1) m_isTold m_marks ((mf_lives m_at m_beside m_loops m_ran Wd R nr nc nn seed).2.2.1) m_names m_sort m_trayMany m_trays m_tape m_text m_opened ((mf_lives m_at m_beside m_loops m_ran Wd R nr nc nn seed).2.2.2.1) m_then m_ways m_further m_canBe ((mf_lives m_at m_beside m_loops m_ran Wd R nr nc nn seed).2.2.2.2.1) ((mf_lives m_at m_beside m_loops m_ran Wd R nr nc nn seed).2.2.2.2.2) m_told0) A) ([.ref (ad 0), .int seed] : List Value).toArray s 0 0 A) (F0 m 184 ls []) := by
          intro t_2 ht_2 okx_2_m_at okx_2_m_loops H locs hP hD hS ls hl
          have e_ : mf_lives m_at m_beside m_loops m_ran Wd R nr nc nn seed = (t_2.2.1, nI t_2.2.2.1, t_2.2.2.2.1, t_2.2.2.2.2.1, t_2.2.2.2.2.2.1, t_2.2.2.2.2.2.2) := by rw [mf_lives, zlet_eq hs_1, zcase_l ht_2]
          exact zr_mv hx hb hr hlocks hP hD hS dX7_lives_184 rfl (by rw [e_]) (by rw [e_]; exact ⟨okx_2_m_at, okx_2_m_loops⟩)
        have hlp_2 : ∀ (n : Nat) (s_2 : Nat × Int32 × Nat × (Nat → Int32) × (Nat → Int32) × (Nat → Int32) × (Nat → Int32)), 300 - s_2.2.2.1 < n → zw (mf_lives_B32 Wd R nr nc nn) (.inl (0, seed, 0, m_at, m_beside, m_loops, s_1)) n s_2 = mf_lives_L32 Wd R nr nc nn (0, seed, 0, m_at, m_beside, m_loops, s_1) → s_2.1 ≤ 61 → s_2.2.2.1 ≤ 300 → mYR s_2.2.2.2.1 Wd R nr nc nn → mLP s_2.2.2.2.2.2.1  → ∀ (H : Heap) (locs : List Loc), va_P G.1 zcl (mW G ad m_status m_top m_bottom m_taped m_size m_token m_from m_end m_value m_faultKind m_faultPlace m_faults m_seen m_depth m_counted m_lead m_round m_tried m_triedMany s_2.2.1 (nI s_2.2.2.1) m_isTold m_marks s_2.2.2.2.1 m_names m_sort m_trayMany m_trays m_tape m_text m_opened s_2.2.2.2.2.1 m_then m_ways m_further m_canBe s_2.2.2.2.2.2.1 s_2.2.2.2.2.2.2 m_told0) H → va_D A (mW G ad m_status m_top m_bottom m_taped m_size m_token m_from m_end m_value m_faultKind m_faultPlace m_faults m_seen m_depth m_counted m_lead m_round m_tried m_triedMany s_2.2.1 (nI s_2.2.2.1) m_isTold m_marks s_2.2.2.2.1 m_names m_sort m_trayMany m_trays m_tape m_text m_opened s_2.2.2.2.2.1 m_then m_ways m_further m_canBe s_2.2.2.2.2.2.1 s_2.2.2.2.2.2.2 m_told0) → va_S A s.heap H locs → ∀ ls : Array Slot, lv_has ls 4 [(2, .int (nI s_2.1)), (0, .ref (ad 0))] → W p l e (zR 8 0 0) s m ([.ref (ad 0), .int seed] : List Value).toArray below meth c H locs 0 0 (MQ below (zQm G (mYR ((mf_lives m_at m_beside m_loops m_ran Wd R nr nc nn seed).2.2.1) Wd R nr nc nn ∧ mLP ((mf_lives m_at m_beside m_loops m_ran Wd R nr nc nn seed).2.2.2.2.1) ) none (mW G ad m_status m_top m_bottom m_taped m_size m_token m_from m_end m_value m_faultKind m_faultPlace m_faults m_seen m_depth m_counted m_lead m_round m_tried m_triedMany ((mf_lives m_at m_beside m_loops m_ran Wd R nr nc nn seed).1) ((mf_lives m_at m_beside m_loops m_ran Wd R nr nc nn seed).2.1) m_isTold m_marks ((mf_lives m_at m_beside m_loops m_ran Wd R nr nc nn seed).2.2.1) m_names m_sort m_trayMany m_trays m_tape m_text m_opened ((mf_lives m_at m_beside m_loops m_ran Wd R nr nc nn seed).2.2.2.1) m_then m_ways m_further m_canBe ((mf_lives m_at m_beside m_loops m_ran Wd R nr nc nn seed).2.2.2.2.1) ((mf_lives m_at m_beside m_loops m_ran Wd R nr nc nn seed).2.2.2.2.2) m_told0) A) ([.ref (ad 0), .int seed] : List Value).toArray s 0 0 A) (F0 m 32 ls []) := by
          intro n
          induction n with
          | zero => exact fun _ h => absurd h (Nat.not_lt_zero _)
          | succ n ih_2 =>
            intro s_2 hmu_2 hR_2 hi2 hrs ok_2_m_at ok_2_m_loops H locs hP hD hS ls hl
            refine lv_iload_n hx hb dX7_lives_32 rfl (lv_at hl 0 rfl) ?_
            refine lv_aload_n hx hb dX7_lives_33 rfl (lv_at hl 1 rfl) ?_
            refine va_get (D := G.1) (ci := 7) (v := .ref (ad 1)) (C := RX7) (T := TX7) (N := 39) hx hb hts in_X7 hown hK.1 hP 0 rfl rfl 0 (Nat.le_of_ble_eq_true rfl) (hts _ q1467) (fun _ h => h) rfl dX7_lives_34 ?_
            refine lv_bipush (v := 11) hx hb dX7_lives_37 (by decide) ?_
            refine zr_iald 11 (v := nI nn) hx hb hK hP 1 rfl rfl (Nat.le_of_ble_eq_true rfl) rfl (by decide) (mYR_n ok_2_m_at) dX7_lives_39 ?_
            refine zr_ge s_2.1 nn (by omega) (by omega) (tgt := 184) hx hb dX7_lives_40 (by decide) (fun c_3 => ?_) (fun c_3 => ?_)
            · exact hx_2 (s_2.1, s_2.2.1, s_2.2.2.1, s_2.2.2.2.1, s_2.2.2.2.2.1, s_2.2.2.2.2.2.1, s_2.2.2.2.2.2.2) (hR_2.symm.trans (zw_r (by rw [mf_lives_B32, if_pos c_3]))) ok_2_m_at ok_2_m_loops H locs hP hD hS ls (lv_sub hl [] rfl)
            · have hkn := Nat.lt_of_not_le c_3
              refine lv_aload_n hx hb dX7_lives_43 rfl (lv_at hl 1 rfl) ?_
              refine va_get (D := G.1) (ci := 7) (v := .int (nI s_2.2.2.1)) (C := RX7) (T := TX7) (N := 39) hx hb hts in_X7 hown hK.1 hP 0 rfl rfl 33 (Nat.le_of_ble_eq_true rfl) (hts _ q1500) (fun _ h => h) rfl dX7_lives_44 ?_
              refine lv_sipush (v := 300) hx hb dX7_lives_47 (by decide) ?_
              refine zr_ne s_2.2.2.1 300 (by omega) (by decide) (tgt := 61) hx hb dX7_lives_50 (by decide) (fun c_4 => ?_) (fun c_4 => ?_)
              · refine lv_bipush (v := 44) hx hb dX7_lives_61 (by decide) ?_
                refine lv_bipush (v := 6) hx hb dX7_lives_63 (by decide) ?_
                refine lv_iload_n hx hb dX7_lives_65 rfl (lv_at hl 0 rfl) ?_
                refine zr_imulN 6 s_2.1 hx hb dX7_lives_66 ?_
                refine zr_iaddN 44 (6 * s_2.1) hx hb dX7_lives_67 ?_
                refine lv_istore_n (lv' := [(3, .int (nI (44 + (6 * s_2.1)))), (2, .int (nI s_2.1)), (0, .ref (ad 0))]) hx hb dX7_lives_68 rfl hl (by decide) rfl (fun ls hl => ?_)
                refine lv_aload_n hx hb dX7_lives_69 rfl (lv_at hl 2 rfl) ?_
                refine lv_dup hx hb dX7_lives_70 rfl ?_
                refine va_get (D := G.1) (ci := 7) (v := .int (nI s_2.2.2.1)) (C := RX7) (T := TX7) (N := 39) hx hb hts in_X7 hown hK.1 hP 0 rfl rfl 33 (Nat.le_of_ble_eq_true rfl) (hts _ q1500) (fun _ h => h) rfl dX7_lives_71 ?_
                refine lv_iconst (v := 1) hx hb dX7_lives_74 (by decide) ?_
                refine zr_iaddN s_2.2.2.1 1 hx hb dX7_lives_75 ?_
                refine va_put (D := G.1) (ci := 7) (v := .int (nI (s_2.2.2.1 + 1))) (ty := .int) (C := RX7) (T := TX7) (N := 39) hx hb hts in_X7 tyX7 tyX7_ok nmX7 hown hK.1 hP hD hS 0 rfl rfl 33 (Nat.le_of_ble_eq_true rfl) (hts _ q1500) (fun _ h => h) rfl (tyX7_ok 33 (Nat.le_of_ble_eq_true rfl)) rfl rfl (Nat.le_of_ble_eq_true rfl) dX7_lives_76 (fun H locs hP hD hS => ?_)
                have hP : va_P G.1 zcl (mW G ad m_status m_top m_bottom m_taped m_size m_token m_from m_end m_value m_faultKind m_faultPlace m_faults m_seen m_depth m_counted m_lead m_round m_tried m_triedMany s_2.2.1 (nI (s_2.2.2.1 + 1)) m_isTold m_marks s_2.2.2.2.1 m_names m_sort m_trayMany m_trays m_tape m_text m_opened s_2.2.2.2.2.1 m_then m_ways m_further m_canBe s_2.2.2.2.2.2.1 s_2.2.2.2.2.2.2 m_told0) H := hP
                have hD : va_D A (mW G ad m_status m_top m_bottom m_taped m_size m_token m_from m_end m_value m_faultKind m_faultPlace m_faults m_seen m_depth m_counted m_lead m_round m_tried m_triedMany s_2.2.1 (nI (s_2.2.2.1 + 1)) m_isTold m_marks s_2.2.2.2.1 m_names m_sort m_trayMany m_trays m_tape m_text m_opened s_2.2.2.2.2.1 m_then m_ways m_further m_canBe s_2.2.2.2.2.2.1 s_2.2.2.2.2.2.2 m_told0) := hD
                refine lv_aload_n hx hb dX7_lives_79 rfl (lv_at hl 2 rfl) ?_
                refine va_get (D := G.1) (ci := 7) (v := .ref (ad 1)) (C := RX7) (T := TX7) (N := 39) hx hb hts in_X7 hown hK.1 hP 0 rfl rfl 0 (Nat.le_of_ble_eq_true rfl) (hts _ q1467) (fun _ h => h) rfl dX7_lives_80 ?_
                refine lv_iload_n hx hb dX7_lives_83 rfl (lv_at hl 0 rfl) ?_
                refine zr_iald (44 + (6 * s_2.1)) (v := s_2.2.2.2.1 (44 + (6 * s_2.1))) hx hb hK hP 1 rfl rfl (Nat.le_of_ble_eq_true rfl) rfl (by omega) rfl dX7_lives_84 ?_
                refine lv_bipush (v := 18) hx hb dX7_lives_85 (by decide) ?_
                refine lv_icmp_ne (tgt := 91) hx hb dX7_lives_87 (by decide) (fun c_5 => ?_) (fun c_5 => ?_)
                · refine lv_aload_n hx hb dX7_lives_91 rfl (lv_at hl 2 rfl) ?_
                  refine va_get (D := G.1) (ci := 7) (v := .ref (ad 15)) (C := RX7) (T := TX7) (N := 39) hx hb hts in_X7 hown hK.1 hP 0 rfl rfl 35 (Nat.le_of_ble_eq_true rfl) (hts _ q1502) (fun _ h => h) rfl dX7_lives_92 ?_
                  refine lv_iconst (v := 0) hx hb dX7_lives_95 (by decide) ?_
                  refine lv_dup2_11 hx hb dX7_lives_96 rfl rfl ?_
                  refine zr_iald 0 (v := s_2.2.2.2.2.2.2 0) hx hb hK hP 15 rfl rfl (Nat.le_of_ble_eq_true rfl) rfl (by decide) rfl dX7_lives_97 ?_
                  refine lv_aload_n hx hb dX7_lives_98 rfl (lv_at hl 2 rfl) ?_
                  refine lv_iload_n hx hb dX7_lives_99 rfl (lv_at hl 0 rfl) ?_
                  refine zr_muV (F := mf_does s_2.2.1 s_2.2.2.2.1 s_2.2.2.2.2.1 s_2.2.2.2.2.2.2 Wd R nr nc s_2.1) (ff := fun t_6 => mYR t_6.2.2.1 Wd R nr nc nn) (rr := fun t_6 => some (.int (zb t_6.1))) (w1 := fun t_6 => (mW G ad m_status m_top m_bottom m_taped m_size m_token m_from m_end m_value m_faultKind m_faultPlace m_faults m_seen m_depth m_counted m_lead m_round m_tried m_triedMany t_6.2.1 (nI (s_2.2.2.1 + 1)) m_isTold m_marks t_6.2.2.1 m_names m_sort m_trayMany m_trays m_tape m_text m_opened t_6.2.2.2.1 m_then m_ways m_further m_canBe s_2.2.2.2.2.2.1 t_6.2.2.2.2 m_told0)) ⟨hx, hb, hml, hown, hts⟩ (mt_mf_does l G ad m_status m_top m_bottom m_taped m_size m_token m_from m_end m_value m_faultKind m_faultPlace m_faults m_seen m_depth m_counted m_lead m_round m_tried m_triedMany s_2.2.1 (nI (s_2.2.2.1 + 1)) m_isTold m_marks s_2.2.2.2.1 m_names m_sort m_trayMany m_trays m_tape m_text m_opened s_2.2.2.2.2.1 m_then m_ways m_further m_canBe s_2.2.2.2.2.2.1 s_2.2.2.2.2.2.2 m_told0 Wd R nr nc nn s_2.1 ok_2_m_at (by omega) H.size) (cwV 1 hts (lw_V q2110 q2112 qs127 q144 q2113) rfl rfl rfl hd_X7_does ⟨(Nat.le_of_ble_eq_true rfl), (Nat.le_of_ble_eq_true rfl)⟩) hP hD hS hA hK hE 0 7 rfl rfl rfl hl.1 rfl (Nat.le_of_ble_eq_true rfl) dX7_lives_100 ⟨Nat.le_refl _, Nat.le_refl _⟩ (fun t_6 ht_6 hft_6 H locs hP hD hS _ => ?_)
                  refine W.eq (g2 := F0 m 103 ls [.int (zb t_6.1), .int (s_2.2.2.2.2.2.2 0), .int 0, .ref (ad 15)]) rfl ?_
                  have ok_m_at_t_6 := hft_6
                  refine zr_eqB t_6.1 (tgt := 110) hx hb dX7_lives_103 (by decide) (fun c_7 => ?_) (fun c_7 => ?_)
                  · refine lv_iconst (v := 1) hx hb dX7_lives_110 (by decide) ?_
                    refine lv_iadd hx hb dX7_lives_111 ?_
                    refine zr_iast 0 (ws' := (mW G ad m_status m_top m_bottom m_taped m_size m_token m_from m_end m_value m_faultKind m_faultPlace m_faults m_seen m_depth m_counted m_lead m_round m_tried m_triedMany t_6.2.1 (nI (s_2.2.2.1 + 1)) m_isTold m_marks t_6.2.2.1 m_names m_sort m_trayMany m_trays m_tape m_text m_opened t_6.2.2.2.1 m_then m_ways m_further m_canBe s_2.2.2.2.2.2.1 (upd t_6.2.2.2.2 0 ((s_2.2.2.2.2.2.2 0) + 1)) m_told0)) hx hb hK hP hD hS 15 rfl rfl (Nat.le_of_ble_eq_true rfl) rfl (by decide) rfl dX7_lives_112 (fun H locs hP hD hS => ?_)
                    refine lv_aload_n hx hb dX7_lives_113 rfl (lv_at hl 2 rfl) ?_
                    refine va_get (D := G.1) (ci := 7) (v := .ref (ad 1)) (C := RX7) (T := TX7) (N := 39) hx hb hts in_X7 hown hK.1 hP 0 rfl rfl 0 (Nat.le_of_ble_eq_true rfl) (hts _ q1467) (fun _ h => h) rfl dX7_lives_114 ?_
                    refine lv_iload_n hx hb dX7_lives_117 rfl (lv_at hl 0 rfl) ?_
                    refine zr_iald (44 + (6 * s_2.1)) (v := t_6.2.2.1 (44 + (6 * s_2.1))) hx hb hK hP 1 rfl rfl (Nat.le_of_ble_eq_true rfl) rfl (by omega) rfl dX7_lives_118 ?_
                    refine lv_bipush (v := 16) hx hb dX7_lives_119 (by decide) ?_
                    refine lv_icmp_ne (tgt := 140) hx hb dX7_lives_121 (by decide) (fun c_8 => ?_) (fun c_8 => ?_)
                    · refine lv_aload_n hx hb dX7_lives_140 rfl (lv_at hl 2 rfl) ?_
                      refine lv_aload_n hx hb dX7_lives_141 rfl (lv_at hl 2 rfl) ?_
                      refine va_get (D := G.1) (ci := 7) (v := .ref (ad 1)) (C := RX7) (T := TX7) (N := 39) hx hb hts in_X7 hown hK.1 hP 0 rfl rfl 0 (Nat.le_of_ble_eq_true rfl) (hts _ q1467) (fun _ h => h) rfl dX7_lives_142 ?_
                      refine lv_iload_n hx hb dX7_lives_145 rfl (lv_at hl 0 rfl) ?_
                      refine zr_iald (44 + (6 * s_2.1)) (v := t_6.2.2.1 (44 + (6 * s_2.1))) hx hb hK hP 1 rfl rfl (Nat.le_of_ble_eq_true rfl) rfl (by omega) rfl dX7_lives_146 ?_
                      refine lv_sipush (v := 1500) hx hb dX7_lives_147 (by decide) ?_
                      refine lv_icmp_lt (tgt := 174) hx hb dX7_lives_150 (by decide) (fun c_9 => ?_) (fun c_9 => ?_)
                      · refine lv_iload_n hx hb dX7_lives_174 rfl (lv_at hl 1 rfl) ?_
                        refine lv_iconst (v := 1) hx hb dX7_lives_175 (by decide) ?_
                        refine zr_iaddN s_2.1 1 hx hb dX7_lives_176 ?_
                        refine zr_muV (F := mf_behindEnds t_6.2.2.1 s_2.2.2.2.2.2.1 nn (s_2.1 + 1)) (ff := fun t_10 => mLP t_10.2  ∧ t_10.1 ≤ 61) (rr := fun t_10 => some (.int (nI t_10.1))) (w1 := fun t_10 => (mW G ad m_status m_top m_bottom m_taped m_size m_token m_from m_end m_value m_faultKind m_faultPlace m_faults m_seen m_depth m_counted m_lead m_round m_tried m_triedMany t_6.2.1 (nI (s_2.2.2.1 + 1)) m_isTold m_marks t_6.2.2.1 m_names m_sort m_trayMany m_trays m_tape m_text m_opened t_6.2.2.2.1 m_then m_ways m_further m_canBe t_10.2 (upd t_6.2.2.2.2 0 ((s_2.2.2.2.2.2.2 0) + 1)) m_told0)) ⟨hx, hb, hml, hown, hts⟩ (mt_mf_behindEnds l G ad m_status m_top m_bottom m_taped m_size m_token m_from m_end m_value m_faultKind m_faultPlace m_faults m_seen m_depth m_counted m_lead m_round m_tried m_triedMany t_6.2.1 (nI (s_2.2.2.1 + 1)) m_isTold m_marks t_6.2.2.1 m_names m_sort m_trayMany m_trays m_tape m_text m_opened t_6.2.2.2.1 m_then m_ways m_further m_canBe s_2.2.2.2.2.2.1 (upd t_6.2.2.2.2 0 ((s_2.2.2.2.2.2.2 0) + 1)) m_told0 Wd R nr nc nn (s_2.1 + 1) ok_m_at_t_6 ok_2_m_loops (by omega) H.size) (cwV 1 hts (lw_V q2131 q2133 qs132 q144 q2134) rfl rfl rfl hd_X7_behindEnds ⟨(Nat.le_of_ble_eq_true rfl), (Nat.le_of_ble_eq_true rfl)⟩) hP hD hS hA hK hE 0 7 rfl rfl rfl hl.1 rfl (Nat.le_of_ble_eq_true rfl) dX7_lives_177 ⟨Nat.le_refl _, Nat.le_refl _⟩ (fun t_10 ht_10 hft_10 H locs hP hD hS _ => ?_)
                        refine W.eq (g2 := F0 m 180 ls [.int (nI t_10.1)]) rfl ?_
                        obtain ⟨ok_m_loops_t_10, hk_t_10⟩ := hft_10
                        refine lv_istore_n (lv' := [(2, .int (nI t_10.1)), (3, .int (nI (44 + (6 * s_2.1)))), (0, .ref (ad 0))]) hx hb dX7_lives_180 rfl hl (by decide) rfl (fun ls hl => ?_)
                        refine lv_goto (tgt := 32) hx hb dX7_lives_181 (by decide) ?_
                        exact ih_2 (t_10.1, t_6.2.1, s_2.2.2.1 + 1, t_6.2.2.1, t_6.2.2.2.1, t_10.2, upd t_6.2.2.2.2 0 ((s_2.2.2.2.2.2.2 0) + 1)) (by first | omega | (dsimp only; omega)) ((zw_l (by rw [mf_lives_B32, if_neg c_3, if_neg c_4, if_neg c_5, zlet_eq ht_6, if_neg c_7, if_neg c_8, if_pos c_9, zlet_eq ht_10])).symm.trans hR_2) (by omega) (by first | omega | (dsimp only; omega)) ok_m_at_t_6 ok_m_loops_t_10 H locs hP hD hS ls (lv_sub hl [0, 2] rfl)
                      · have h15 := Int32.not_lt.mp c_9
                        refine lv_aload_n hx hb dX7_lives_153 rfl (lv_at hl 2 rfl) ?_
                        refine lv_iload_n hx hb dX7_lives_154 rfl (lv_at hl 0 rfl) ?_
                        refine zr_muV (F := mf_holds t_6.2.2.1 t_6.2.2.2.1 Wd R s_2.1) (ff := fun t_11 => True) (rr := fun t_11 => some (.int (zb t_11.1))) (w1 := fun t_11 => (mW G ad m_status m_top m_bottom m_taped m_size m_token m_from m_end m_value m_faultKind m_faultPlace m_faults m_seen m_depth m_counted m_lead m_round m_tried m_triedMany t_6.2.1 (nI (s_2.2.2.1 + 1)) m_isTold m_marks t_6.2.2.1 m_names m_sort m_trayMany m_trays m_tape m_text m_opened t_11.2 m_then m_ways m_further m_canBe s_2.2.2.2.2.2.1 (upd t_6.2.2.2.2 0 ((s_2.2.2.2.2.2.2 0) + 1)) m_told0)) ⟨hx, hb, hml, hown, hts⟩ (mt_mf_holds l G ad m_status m_top m_bottom m_taped m_size m_token m_from m_end m_value m_faultKind m_faultPlace m_faults m_seen m_depth m_counted m_lead m_round m_tried m_triedMany t_6.2.1 (nI (s_2.2.2.1 + 1)) m_isTold m_marks t_6.2.2.1 m_names m_sort m_trayMany m_trays m_tape m_text m_opened t_6.2.2.2.1 m_then m_ways m_further m_canBe s_2.2.2.2.2.2.1 (upd t_6.2.2.2.2 0 ((s_2.2.2.2.2.2.2 0) + 1)) m_told0 Wd R nr nc nn s_2.1 ok_m_at_t_6 (by omega) H.size) (cwV 1 hts (lw_V q2127 q2129 qs131 q144 q2130) rfl rfl rfl hd_X7_holds ⟨(Nat.le_of_ble_eq_true rfl), (Nat.le_of_ble_eq_true rfl)⟩) hP hD hS hA hK hE 0 7 rfl rfl rfl hl.1 rfl (Nat.le_of_ble_eq_true rfl) dX7_lives_155 ⟨Nat.le_refl _, Nat.le_refl _⟩ (fun t_11 ht_11 hft_11 H locs hP hD hS _ => ?_)
                        refine W.eq (g2 := F0 m 158 ls [.int (zb t_11.1), .ref (ad 0)]) rfl ?_
                        refine zr_neB t_11.1 (tgt := 174) hx hb dX7_lives_158 (by decide) (fun c_12 => ?_) (fun c_12 => ?_)
                        · refine lv_iload_n hx hb dX7_lives_174 rfl (lv_at hl 1 rfl) ?_
                          refine lv_iconst (v := 1) hx hb dX7_lives_175 (by decide) ?_
                          refine zr_iaddN s_2.1 1 hx hb dX7_lives_176 ?_
                          refine zr_muV (F := mf_behindEnds t_6.2.2.1 s_2.2.2.2.2.2.1 nn (s_2.1 + 1)) (ff := fun t_13 => mLP t_13.2  ∧ t_13.1 ≤ 61) (rr := fun t_13 => some (.int (nI t_13.1))) (w1 := fun t_13 => (mW G ad m_status m_top m_bottom m_taped m_size m_token m_from m_end m_value m_faultKind m_faultPlace m_faults m_seen m_depth m_counted m_lead m_round m_tried m_triedMany t_6.2.1 (nI (s_2.2.2.1 + 1)) m_isTold m_marks t_6.2.2.1 m_names m_sort m_trayMany m_trays m_tape m_text m_opened t_11.2 m_then m_ways m_further m_canBe t_13.2 (upd t_6.2.2.2.2 0 ((s_2.2.2.2.2.2.2 0) + 1)) m_told0)) ⟨hx, hb, hml, hown, hts⟩ (mt_mf_behindEnds l G ad m_status m_top m_bottom m_taped m_size m_token m_from m_end m_value m_faultKind m_faultPlace m_faults m_seen m_depth m_counted m_lead m_round m_tried m_triedMany t_6.2.1 (nI (s_2.2.2.1 + 1)) m_isTold m_marks t_6.2.2.1 m_names m_sort m_trayMany m_trays m_tape m_text m_opened t_11.2 m_then m_ways m_further m_canBe s_2.2.2.2.2.2.1 (upd t_6.2.2.2.2 0 ((s_2.2.2.2.2.2.2 0) + 1)) m_told0 Wd R nr nc nn (s_2.1 + 1) ok_m_at_t_6 ok_2_m_loops (by omega) H.size) (cwV 1 hts (lw_V q2131 q2133 qs132 q144 q2134) rfl rfl rfl hd_X7_behindEnds ⟨(Nat.le_of_ble_eq_true rfl), (Nat.le_of_ble_eq_true rfl)⟩) hP hD hS hA hK hE 0 7 rfl rfl rfl hl.1 rfl (Nat.le_of_ble_eq_true rfl) dX7_lives_177 ⟨Nat.le_refl _, Nat.le_refl _⟩ (fun t_13 ht_13 hft_13 H locs hP hD hS _ => ?_)
                          refine W.eq (g2 := F0 m 180 ls [.int (nI t_13.1)]) rfl ?_
                          obtain ⟨ok_m_loops_t_13, hk_t_13⟩ := hft_13
                          refine lv_istore_n (lv' := [(2, .int (nI t_13.1)), (3, .int (nI (44 + (6 * s_2.1)))), (0, .ref (ad 0))]) hx hb dX7_lives_180 rfl hl (by decide) rfl (fun ls hl => ?_)
                          refine lv_goto (tgt := 32) hx hb dX7_lives_181 (by decide) ?_
                          exact ih_2 (t_13.1, t_6.2.1, s_2.2.2.1 + 1, t_6.2.2.1, t_11.2, t_13.2, upd t_6.2.2.2.2 0 ((s_2.2.2.2.2.2.2 0) + 1)) (by first | omega | (dsimp only; omega)) ((zw_l (by rw [mf_lives_B32, if_neg c_3, if_neg c_4, if_neg c_5, zlet_eq ht_6, if_neg c_7, if_neg c_8, if_neg c_9, zlet_eq ht_11, if_pos c_12, zlet_eq ht_13])).symm.trans hR_2) (by omega) (by first | omega | (dsimp only; omega)) ok_m_at_t_6 ok_m_loops_t_13 H locs hP hD hS ls (lv_sub hl [0, 2] rfl)
                        · have hwc := (ok_m_at_t_6.2.2.2 _ hkn).2.2.2.2 h15
                          refine lv_aload_n hx hb dX7_lives_161 rfl (lv_at hl 2 rfl) ?_
                          refine va_get (D := G.1) (ci := 7) (v := .ref (ad 1)) (C := RX7) (T := TX7) (N := 39) hx hb hts in_X7 hown hK.1 hP 0 rfl rfl 0 (Nat.le_of_ble_eq_true rfl) (hts _ q1467) (fun _ h => h) rfl dX7_lives_162 ?_
                          refine lv_iload_n hx hb dX7_lives_165 rfl (lv_at hl 0 rfl) ?_
                          refine lv_iconst (v := 4) hx hb dX7_lives_166 (by decide) ?_
                          refine zr_iaddN (44 + (6 * s_2.1)) 4 hx hb dX7_lives_167 ?_
                          refine zr_val (v' := .int (nI (44 + (6 * s_2.1) + 4))) (by rfl) ?_
                          refine zr_iald (44 + (6 * s_2.1) + 4) (v := nI (((t_6.2.2.1 (44 + (6 * s_2.1) + 4))).toNatClampNeg)) hx hb hK hP 1 rfl rfl (Nat.le_of_ble_eq_true rfl) rfl (by omega) (z_nn hwc.1) dX7_lives_168 ?_
                          refine lv_iconst (v := 1) hx hb dX7_lives_169 (by decide) ?_
                          refine zr_iaddN (((t_6.2.2.1 (44 + (6 * s_2.1) + 4))).toNatClampNeg) 1 hx hb dX7_lives_170 ?_
                          refine zr_val (v' := .int (nI (((t_6.2.2.1 (44 + (6 * s_2.1) + 4))).toNatClampNeg + 1))) (by rfl) ?_
                          refine lv_goto (tgt := 177) hx hb dX7_lives_171 (by decide) ?_
                          refine zr_muV (F := mf_behindEnds t_6.2.2.1 s_2.2.2.2.2.2.1 nn (((t_6.2.2.1 (44 + (6 * s_2.1) + 4))).toNatClampNeg + 1)) (ff := fun t_14 => mLP t_14.2  ∧ t_14.1 ≤ 61) (rr := fun t_14 => some (.int (nI t_14.1))) (w1 := fun t_14 => (mW G ad m_status m_top m_bottom m_taped m_size m_token m_from m_end m_value m_faultKind m_faultPlace m_faults m_seen m_depth m_counted m_lead m_round m_tried m_triedMany t_6.2.1 (nI (s_2.2.2.1 + 1)) m_isTold m_marks t_6.2.2.1 m_names m_sort m_trayMany m_trays m_tape m_text m_opened t_11.2 m_then m_ways m_further m_canBe t_14.2 (upd t_6.2.2.2.2 0 ((s_2.2.2.2.2.2.2 0) + 1)) m_told0)) ⟨hx, hb, hml, hown, hts⟩ (mt_mf_behindEnds l G ad m_status m_top m_bottom m_taped m_size m_token m_from m_end m_value m_faultKind m_faultPlace m_faults m_seen m_depth m_counted m_lead m_round m_tried m_triedMany t_6.2.1 (nI (s_2.2.2.1 + 1)) m_isTold m_marks t_6.2.2.1 m_names m_sort m_trayMany m_trays m_tape m_text m_opened t_11.2 m_then m_ways m_further m_canBe s_2.2.2.2.2.2.1 (upd t_6.2.2.2.2 0 ((s_2.2.2.2.2.2.2 0) + 1)) m_told0 Wd R nr nc nn (((t_6.2.2.1 (44 + (6 * s_2.1) + 4))).toNatClampNeg + 1) ok_m_at_t_6 ok_2_m_loops (by omega) H.size) (cwV 1 hts (lw_V q2131 q2133 qs132 q144 q2134) rfl rfl rfl hd_X7_behindEnds ⟨(Nat.le_of_ble_eq_true rfl), (Nat.le_of_ble_eq_true rfl)⟩) hP hD hS hA hK hE 0 7 rfl rfl rfl hl.1 rfl (Nat.le_of_ble_eq_true rfl) dX7_lives_177 ⟨Nat.le_refl _, Nat.le_refl _⟩ (fun t_14 ht_14 hft_14 H locs hP hD hS _ => ?_)
                          refine W.eq (g2 := F0 m 180 ls [.int (nI t_14.1)]) rfl ?_
                          obtain ⟨ok_m_loops_t_14, hk_t_14⟩ := hft_14
                          refine lv_istore_n (lv' := [(2, .int (nI t_14.1)), (3, .int (nI (44 + (6 * s_2.1)))), (0, .ref (ad 0))]) hx hb dX7_lives_180 rfl hl (by decide) rfl (fun ls hl => ?_)
                          refine lv_goto (tgt := 32) hx hb dX7_lives_181 (by decide) ?_
                          exact ih_2 (t_14.1, t_6.2.1, s_2.2.2.1 + 1, t_6.2.2.1, t_11.2, t_14.2, upd t_6.2.2.2.2 0 ((s_2.2.2.2.2.2.2 0) + 1)) (by first | omega | (dsimp only; omega)) ((zw_l (by rw [mf_lives_B32, if_neg c_3, if_neg c_4, if_neg c_5, zlet_eq ht_6, if_neg c_7, if_neg c_8, if_neg c_9, zlet_eq ht_11, if_neg c_12, zlet_eq ht_14])).symm.trans hR_2) (by omega) (by first | omega | (dsimp only; omega)) ok_m_at_t_6 ok_m_loops_t_14 H locs hP hD hS ls (lv_sub hl [0, 2] rfl)
                    · have hlv := mYR_lp ok_m_at_t_6 hkn c_8
                      refine lv_aload_n hx hb dX7_lives_124 rfl (lv_at hl 2 rfl) ?_
                      refine va_get (D := G.1) (ci := 7) (v := .ref (ad 14)) (C := RX7) (T := TX7) (N := 39) hx hb hts in_X7 hown hK.1 hP 0 rfl rfl 34 (Nat.le_of_ble_eq_true rfl) (hts _ q1501) (fun _ h => h) rfl dX7_lives_125 ?_
                      refine lv_iload_n hx hb dX7_lives_128 rfl (lv_at hl 1 rfl) ?_
                      refine lv_aload_n hx hb dX7_lives_129 rfl (lv_at hl 2 rfl) ?_
                      refine va_get (D := G.1) (ci := 7) (v := .ref (ad 1)) (C := RX7) (T := TX7) (N := 39) hx hb hts in_X7 hown hK.1 hP 0 rfl rfl 0 (Nat.le_of_ble_eq_true rfl) (hts _ q1467) (fun _ h => h) rfl dX7_lives_130 ?_
                      refine lv_iload_n hx hb dX7_lives_133 rfl (lv_at hl 0 rfl) ?_
                      refine lv_iconst (v := 1) hx hb dX7_lives_134 (by decide) ?_
                      refine zr_iaddN (44 + (6 * s_2.1)) 1 hx hb dX7_lives_135 ?_
                      refine zr_val (v' := .int (nI (44 + (6 * s_2.1) + 1))) (by rfl) ?_
                      refine zr_iald (44 + (6 * s_2.1) + 1) (v := t_6.2.2.1 (44 + (6 * s_2.1) + 1)) hx hb hK hP 1 rfl rfl (Nat.le_of_ble_eq_true rfl) rfl (by omega) rfl dX7_lives_136 ?_
                      refine lv_iconst (v := 1) hx hb dX7_lives_137 (by decide) ?_
                      refine lv_isub hx hb dX7_lives_138 ?_
                      refine zr_iast s_2.1 (ws' := (mW G ad m_status m_top m_bottom m_taped m_size m_token m_from m_end m_value m_faultKind m_faultPlace m_faults m_seen m_depth m_counted m_lead m_round m_tried m_triedMany t_6.2.1 (nI (s_2.2.2.1 + 1)) m_isTold m_marks t_6.2.2.1 m_names m_sort m_trayMany m_trays m_tape m_text m_opened t_6.2.2.2.1 m_then m_ways m_further m_canBe (upd s_2.2.2.2.2.2.1 s_2.1 ((t_6.2.2.1 (44 + (6 * s_2.1) + 1)) - 1)) (upd t_6.2.2.2.2 0 ((s_2.2.2.2.2.2.2 0) + 1)) m_told0)) hx hb hK hP hD hS 14 rfl rfl (Nat.le_of_ble_eq_true rfl) rfl (by omega) rfl dX7_lives_139 (fun H locs hP hD hS => ?_)
                      refine lv_aload_n hx hb dX7_lives_140 rfl (lv_at hl 2 rfl) ?_
                      refine lv_aload_n hx hb dX7_lives_141 rfl (lv_at hl 2 rfl) ?_
                      refine va_get (D := G.1) (ci := 7) (v := .ref (ad 1)) (C := RX7) (T := TX7) (N := 39) hx hb hts in_X7 hown hK.1 hP 0 rfl rfl 0 (Nat.le_of_ble_eq_true rfl) (hts _ q1467) (fun _ h => h) rfl dX7_lives_142 ?_
                      refine lv_iload_n hx hb dX7_lives_145 rfl (lv_at hl 0 rfl) ?_
                      refine zr_iald (44 + (6 * s_2.1)) (v := t_6.2.2.1 (44 + (6 * s_2.1))) hx hb hK hP 1 rfl rfl (Nat.le_of_ble_eq_true rfl) rfl (by omega) rfl dX7_lives_146 ?_
                      refine lv_sipush (v := 1500) hx hb dX7_lives_147 (by decide) ?_
                      refine lv_icmp_lt (tgt := 174) hx hb dX7_lives_150 (by decide) (fun c_15 => ?_) (fun c_15 => ?_)
                      · refine lv_iload_n hx hb dX7_lives_174 rfl (lv_at hl 1 rfl) ?_
                        refine lv_iconst (v := 1) hx hb dX7_lives_175 (by decide) ?_
                        refine zr_iaddN s_2.1 1 hx hb dX7_lives_176 ?_
                        refine zr_muV (F := mf_behindEnds t_6.2.2.1 (upd s_2.2.2.2.2.2.1 s_2.1 ((t_6.2.2.1 (44 + (6 * s_2.1) + 1)) - 1)) nn (s_2.1 + 1)) (ff := fun t_16 => mLP t_16.2  ∧ t_16.1 ≤ 61) (rr := fun t_16 => some (.int (nI t_16.1))) (w1 := fun t_16 => (mW G ad m_status m_top m_bottom m_taped m_size m_token m_from m_end m_value m_faultKind m_faultPlace m_faults m_seen m_depth m_counted m_lead m_round m_tried m_triedMany t_6.2.1 (nI (s_2.2.2.1 + 1)) m_isTold m_marks t_6.2.2.1 m_names m_sort m_trayMany m_trays m_tape m_text m_opened t_6.2.2.2.1 m_then m_ways m_further m_canBe t_16.2 (upd t_6.2.2.2.2 0 ((s_2.2.2.2.2.2.2 0) + 1)) m_told0)) ⟨hx, hb, hml, hown, hts⟩ (mt_mf_behindEnds l G ad m_status m_top m_bottom m_taped m_size m_token m_from m_end m_value m_faultKind m_faultPlace m_faults m_seen m_depth m_counted m_lead m_round m_tried m_triedMany t_6.2.1 (nI (s_2.2.2.1 + 1)) m_isTold m_marks t_6.2.2.1 m_names m_sort m_trayMany m_trays m_tape m_text m_opened t_6.2.2.2.1 m_then m_ways m_further m_canBe (upd s_2.2.2.2.2.2.1 s_2.1 ((t_6.2.2.1 (44 + (6 * s_2.1) + 1)) - 1)) (upd t_6.2.2.2.2 0 ((s_2.2.2.2.2.2.2 0) + 1)) m_told0 Wd R nr nc nn (s_2.1 + 1) ok_m_at_t_6 (by first | (have h0z := hlv; exact mLP_u ok_2_m_loops h0z) | (have h0z := h0l; exact mLP_d ok_2_m_loops (by omega) h0z) | exact mLP_s ok_2_m_loops (by omega)) (by omega) H.size) (cwV 1 hts (lw_V q2131 q2133 qs132 q144 q2134) rfl rfl rfl hd_X7_behindEnds ⟨(Nat.le_of_ble_eq_true rfl), (Nat.le_of_ble_eq_true rfl)⟩) hP hD hS hA hK hE 0 7 rfl rfl rfl hl.1 rfl (Nat.le_of_ble_eq_true rfl) dX7_lives_177 ⟨Nat.le_refl _, Nat.le_refl _⟩ (fun t_16 ht_16 hft_16 H locs hP hD hS _ => ?_)
                        refine W.eq (g2 := F0 m 180 ls [.int (nI t_16.1)]) rfl ?_
                        obtain ⟨ok_m_loops_t_16, hk_t_16⟩ := hft_16
                        refine lv_istore_n (lv' := [(2, .int (nI t_16.1)), (3, .int (nI (44 + (6 * s_2.1)))), (0, .ref (ad 0))]) hx hb dX7_lives_180 rfl hl (by decide) rfl (fun ls hl => ?_)
                        refine lv_goto (tgt := 32) hx hb dX7_lives_181 (by decide) ?_
                        exact ih_2 (t_16.1, t_6.2.1, s_2.2.2.1 + 1, t_6.2.2.1, t_6.2.2.2.1, t_16.2, upd t_6.2.2.2.2 0 ((s_2.2.2.2.2.2.2 0) + 1)) (by first | omega | (dsimp only; omega)) ((zw_l (by rw [mf_lives_B32, if_neg c_3, if_neg c_4, if_neg c_5, zlet_eq ht_6, if_neg c_7, if_pos c_8, if_pos c_15, zlet_eq ht_16])).symm.trans hR_2) (by omega) (by first | omega | (dsimp only; omega)) ok_m_at_t_6 ok_m_loops_t_16 H locs hP hD hS ls (lv_sub hl [0, 2] rfl)
                      · have h15 := Int32.not_lt.mp c_15
                        refine lv_aload_n hx hb dX7_lives_153 rfl (lv_at hl 2 rfl) ?_
                        refine lv_iload_n hx hb dX7_lives_154 rfl (lv_at hl 0 rfl) ?_
                        refine zr_muV (F := mf_holds t_6.2.2.1 t_6.2.2.2.1 Wd R s_2.1) (ff := fun t_17 => True) (rr := fun t_17 => some (.int (zb t_17.1))) (w1 := fun t_17 => (mW G ad m_status m_top m_bottom m_taped m_size m_token m_from m_end m_value m_faultKind m_faultPlace m_faults m_seen m_depth m_counted m_lead m_round m_tried m_triedMany t_6.2.1 (nI (s_2.2.2.1 + 1)) m_isTold m_marks t_6.2.2.1 m_names m_sort m_trayMany m_trays m_tape m_text m_opened t_17.2 m_then m_ways m_further m_canBe (upd s_2.2.2.2.2.2.1 s_2.1 ((t_6.2.2.1 (44 + (6 * s_2.1) + 1)) - 1)) (upd t_6.2.2.2.2 0 ((s_2.2.2.2.2.2.2 0) + 1)) m_told0)) ⟨hx, hb, hml, hown, hts⟩ (mt_mf_holds l G ad m_status m_top m_bottom m_taped m_size m_token m_from m_end m_value m_faultKind m_faultPlace m_faults m_seen m_depth m_counted m_lead m_round m_tried m_triedMany t_6.2.1 (nI (s_2.2.2.1 + 1)) m_isTold m_marks t_6.2.2.1 m_names m_sort m_trayMany m_trays m_tape m_text m_opened t_6.2.2.2.1 m_then m_ways m_further m_canBe (upd s_2.2.2.2.2.2.1 s_2.1 ((t_6.2.2.1 (44 + (6 * s_2.1) + 1)) - 1)) (upd t_6.2.2.2.2 0 ((s_2.2.2.2.2.2.2 0) + 1)) m_told0 Wd R nr nc nn s_2.1 ok_m_at_t_6 (by omega) H.size) (cwV 1 hts (lw_V q2127 q2129 qs131 q144 q2130) rfl rfl rfl hd_X7_holds ⟨(Nat.le_of_ble_eq_true rfl), (Nat.le_of_ble_eq_true rfl)⟩) hP hD hS hA hK hE 0 7 rfl rfl rfl hl.1 rfl (Nat.le_of_ble_eq_true rfl) dX7_lives_155 ⟨Nat.le_refl _, Nat.le_refl _⟩ (fun t_17 ht_17 hft_17 H locs hP hD hS _ => ?_)
                        refine W.eq (g2 := F0 m 158 ls [.int (zb t_17.1), .ref (ad 0)]) rfl ?_
                        refine zr_neB t_17.1 (tgt := 174) hx hb dX7_lives_158 (by decide) (fun c_18 => ?_) (fun c_18 => ?_)
                        · refine lv_iload_n hx hb dX7_lives_174 rfl (lv_at hl 1 rfl) ?_
                          refine lv_iconst (v := 1) hx hb dX7_lives_175 (by decide) ?_
                          refine zr_iaddN s_2.1 1 hx hb dX7_lives_176 ?_
                          refine zr_muV (F := mf_behindEnds t_6.2.2.1 (upd s_2.2.2.2.2.2.1 s_2.1 ((t_6.2.2.1 (44 + (6 * s_2.1) + 1)) - 1)) nn (s_2.1 + 1)) (ff := fun t_19 => mLP t_19.2  ∧ t_19.1 ≤ 61) (rr := fun t_19 => some (.int (nI t_19.1))) (w1 := fun t_19 => (mW G ad m_status m_top m_bottom m_taped m_size m_token m_from m_end m_value m_faultKind m_faultPlace m_faults m_seen m_depth m_counted m_lead m_round m_tried m_triedMany t_6.2.1 (nI (s_2.2.2.1 + 1)) m_isTold m_marks t_6.2.2.1 m_names m_sort m_trayMany m_trays m_tape m_text m_opened t_17.2 m_then m_ways m_further m_canBe t_19.2 (upd t_6.2.2.2.2 0 ((s_2.2.2.2.2.2.2 0) + 1)) m_told0)) ⟨hx, hb, hml, hown, hts⟩ (mt_mf_behindEnds l G ad m_status m_top m_bottom m_taped m_size m_token m_from m_end m_value m_faultKind m_faultPlace m_faults m_seen m_depth m_counted m_lead m_round m_tried m_triedMany t_6.2.1 (nI (s_2.2.2.1 + 1)) m_isTold m_marks t_6.2.2.1 m_names m_sort m_trayMany m_trays m_tape m_text m_opened t_17.2 m_then m_ways m_further m_canBe (upd s_2.2.2.2.2.2.1 s_2.1 ((t_6.2.2.1 (44 + (6 * s_2.1) + 1)) - 1)) (upd t_6.2.2.2.2 0 ((s_2.2.2.2.2.2.2 0) + 1)) m_told0 Wd R nr nc nn (s_2.1 + 1) ok_m_at_t_6 (by first | (have h0z := hlv; exact mLP_u ok_2_m_loops h0z) | (have h0z := h0l; exact mLP_d ok_2_m_loops (by omega) h0z) | exact mLP_s ok_2_m_loops (by omega)) (by omega) H.size) (cwV 1 hts (lw_V q2131 q2133 qs132 q144 q2134) rfl rfl rfl hd_X7_behindEnds ⟨(Nat.le_of_ble_eq_true rfl), (Nat.le_of_ble_eq_true rfl)⟩) hP hD hS hA hK hE 0 7 rfl rfl rfl hl.1 rfl (Nat.le_of_ble_eq_true rfl) dX7_lives_177 ⟨Nat.le_refl _, Nat.le_refl _⟩ (fun t_19 ht_19 hft_19 H locs hP hD hS _ => ?_)
                          refine W.eq (g2 := F0 m 180 ls [.int (nI t_19.1)]) rfl ?_
                          obtain ⟨ok_m_loops_t_19, hk_t_19⟩ := hft_19
                          refine lv_istore_n (lv' := [(2, .int (nI t_19.1)), (3, .int (nI (44 + (6 * s_2.1)))), (0, .ref (ad 0))]) hx hb dX7_lives_180 rfl hl (by decide) rfl (fun ls hl => ?_)
                          refine lv_goto (tgt := 32) hx hb dX7_lives_181 (by decide) ?_
                          exact ih_2 (t_19.1, t_6.2.1, s_2.2.2.1 + 1, t_6.2.2.1, t_17.2, t_19.2, upd t_6.2.2.2.2 0 ((s_2.2.2.2.2.2.2 0) + 1)) (by first | omega | (dsimp only; omega)) ((zw_l (by rw [mf_lives_B32, if_neg c_3, if_neg c_4, if_neg c_5, zlet_eq ht_6, if_neg c_7, if_pos c_8, if_neg c_15, zlet_eq ht_17, if_pos c_18, zlet_eq ht_19])).symm.trans hR_2) (by omega) (by first | omega | (dsimp only; omega)) ok_m_at_t_6 ok_m_loops_t_19 H locs hP hD hS ls (lv_sub hl [0, 2] rfl)
                        · have hwc := (ok_m_at_t_6.2.2.2 _ hkn).2.2.2.2 h15
                          refine lv_aload_n hx hb dX7_lives_161 rfl (lv_at hl 2 rfl) ?_
                          refine va_get (D := G.1) (ci := 7) (v := .ref (ad 1)) (C := RX7) (T := TX7) (N := 39) hx hb hts in_X7 hown hK.1 hP 0 rfl rfl 0 (Nat.le_of_ble_eq_true rfl) (hts _ q1467) (fun _ h => h) rfl dX7_lives_162 ?_
                          refine lv_iload_n hx hb dX7_lives_165 rfl (lv_at hl 0 rfl) ?_
                          refine lv_iconst (v := 4) hx hb dX7_lives_166 (by decide) ?_
                          refine zr_iaddN (44 + (6 * s_2.1)) 4 hx hb dX7_lives_167 ?_
                          refine zr_val (v' := .int (nI (44 + (6 * s_2.1) + 4))) (by rfl) ?_
                          refine zr_iald (44 + (6 * s_2.1) + 4) (v := nI (((t_6.2.2.1 (44 + (6 * s_2.1) + 4))).toNatClampNeg)) hx hb hK hP 1 rfl rfl (Nat.le_of_ble_eq_true rfl) rfl (by omega) (z_nn hwc.1) dX7_lives_168 ?_
                          refine lv_iconst (v := 1) hx hb dX7_lives_169 (by decide) ?_
                          refine zr_iaddN (((t_6.2.2.1 (44 + (6 * s_2.1) + 4))).toNatClampNeg) 1 hx hb dX7_lives_170 ?_
                          refine zr_val (v' := .int (nI (((t_6.2.2.1 (44 + (6 * s_2.1) + 4))).toNatClampNeg + 1))) (by rfl) ?_
                          refine lv_goto (tgt := 177) hx hb dX7_lives_171 (by decide) ?_
                          refine zr_muV (F := mf_behindEnds t_6.2.2.1 (upd s_2.2.2.2.2.2.1 s_2.1 ((t_6.2.2.1 (44 + (6 * s_2.1) + 1)) - 1)) nn (((t_6.2.2.1 (44 + (6 * s_2.1) + 4))).toNatClampNeg + 1)) (ff := fun t_20 => mLP t_20.2  ∧ t_20.1 ≤ 61) (rr := fun t_20 => some (.int (nI t_20.1))) (w1 := fun t_20 => (mW G ad m_status m_top m_bottom m_taped m_size m_token m_from m_end m_value m_faultKind m_faultPlace m_faults m_seen m_depth m_counted m_lead m_round m_tried m_triedMany t_6.2.1 (nI (s_2.2.2.1 + 1)) m_isTold m_marks t_6.2.2.1 m_names m_sort m_trayMany m_trays m_tape m_text m_opened t_17.2 m_then m_ways m_further m_canBe t_20.2 (upd t_6.2.2.2.2 0 ((s_2.2.2.2.2.2.2 0) + 1)) m_told0)) ⟨hx, hb, hml, hown, hts⟩ (mt_mf_behindEnds l G ad m_status m_top m_bottom m_taped m_size m_token m_from m_end m_value m_faultKind m_faultPlace m_faults m_seen m_depth m_counted m_lead m_round m_tried m_triedMany t_6.2.1 (nI (s_2.2.2.1 + 1)) m_isTold m_marks t_6.2.2.1 m_names m_sort m_trayMany m_trays m_tape m_text m_opened t_17.2 m_then m_ways m_further m_canBe (upd s_2.2.2.2.2.2.1 s_2.1 ((t_6.2.2.1 (44 + (6 * s_2.1) + 1)) - 1)) (upd t_6.2.2.2.2 0 ((s_2.2.2.2.2.2.2 0) + 1)) m_told0 Wd R nr nc nn (((t_6.2.2.1 (44 + (6 * s_2.1) + 4))).toNatClampNeg + 1) ok_m_at_t_6 (by first | (have h0z := hlv; exact mLP_u ok_2_m_loops h0z) | (have h0z := h0l; exact mLP_d ok_2_m_loops (by omega) h0z) | exact mLP_s ok_2_m_loops (by omega)) (by omega) H.size) (cwV 1 hts (lw_V q2131 q2133 qs132 q144 q2134) rfl rfl rfl hd_X7_behindEnds ⟨(Nat.le_of_ble_eq_true rfl), (Nat.le_of_ble_eq_true rfl)⟩) hP hD hS hA hK hE 0 7 rfl rfl rfl hl.1 rfl (Nat.le_of_ble_eq_true rfl) dX7_lives_177 ⟨Nat.le_refl _, Nat.le_refl _⟩ (fun t_20 ht_20 hft_20 H locs hP hD hS _ => ?_)
                          refine W.eq (g2 := F0 m 180 ls [.int (nI t_20.1)]) rfl ?_
                          obtain ⟨ok_m_loops_t_20, hk_t_20⟩ := hft_20
                          refine lv_istore_n (lv' := [(2, .int (nI t_20.1)), (3, .int (nI (44 + (6 * s_2.1)))), (0, .ref (ad 0))]) hx hb dX7_lives_180 rfl hl (by decide) rfl (fun ls hl => ?_)
                          refine lv_goto (tgt := 32) hx hb dX7_lives_181 (by decide) ?_
                          exact ih_2 (t_20.1, t_6.2.1, s_2.2.2.1 + 1, t_6.2.2.1, t_17.2, t_20.2, upd t_6.2.2.2.2 0 ((s_2.2.2.2.2.2.2 0) + 1)) (by first | omega | (dsimp only; omega)) ((zw_l (by rw [mf_lives_B32, if_neg c_3, if_neg c_4, if_neg c_5, zlet_eq ht_6, if_neg c_7, if_pos c_8, if_neg c_15, zlet_eq ht_17, if_neg c_18, zlet_eq ht_20])).symm.trans hR_2) (by omega) (by first | omega | (dsimp only; omega)) ok_m_at_t_6 ok_m_loops_t_20 H locs hP hD hS ls (lv_sub hl [0, 2] rfl)
                  · refine lv_iconst (v := 0) hx hb dX7_lives_106 (by decide) ?_
                    refine lv_goto (tgt := 111) hx hb dX7_lives_107 (by decide) ?_
                    refine lv_iadd hx hb dX7_lives_111 ?_
                    refine zr_iast 0 (ws' := (mW G ad m_status m_top m_bottom m_taped m_size m_token m_from m_end m_value m_faultKind m_faultPlace m_faults m_seen m_depth m_counted m_lead m_round m_tried m_triedMany t_6.2.1 (nI (s_2.2.2.1 + 1)) m_isTold m_marks t_6.2.2.1 m_names m_sort m_trayMany m_trays m_tape m_text m_opened t_6.2.2.2.1 m_then m_ways m_further m_canBe s_2.2.2.2.2.2.1 (upd t_6.2.2.2.2 0 ((s_2.2.2.2.2.2.2 0) + 0)) m_told0)) hx hb hK hP hD hS 15 rfl rfl (Nat.le_of_ble_eq_true rfl) rfl (by decide) rfl dX7_lives_112 (fun H locs hP hD hS => ?_)
                    refine lv_aload_n hx hb dX7_lives_113 rfl (lv_at hl 2 rfl) ?_
                    refine va_get (D := G.1) (ci := 7) (v := .ref (ad 1)) (C := RX7) (T := TX7) (N := 39) hx hb hts in_X7 hown hK.1 hP 0 rfl rfl 0 (Nat.le_of_ble_eq_true rfl) (hts _ q1467) (fun _ h => h) rfl dX7_lives_114 ?_
                    refine lv_iload_n hx hb dX7_lives_117 rfl (lv_at hl 0 rfl) ?_
                    refine zr_iald (44 + (6 * s_2.1)) (v := t_6.2.2.1 (44 + (6 * s_2.1))) hx hb hK hP 1 rfl rfl (Nat.le_of_ble_eq_true rfl) rfl (by omega) rfl dX7_lives_118 ?_
                    refine lv_bipush (v := 16) hx hb dX7_lives_119 (by decide) ?_
                    refine lv_icmp_ne (tgt := 140) hx hb dX7_lives_121 (by decide) (fun c_21 => ?_) (fun c_21 => ?_)
                    · refine lv_aload_n hx hb dX7_lives_140 rfl (lv_at hl 2 rfl) ?_
                      refine lv_aload_n hx hb dX7_lives_141 rfl (lv_at hl 2 rfl) ?_
                      refine va_get (D := G.1) (ci := 7) (v := .ref (ad 1)) (C := RX7) (T := TX7) (N := 39) hx hb hts in_X7 hown hK.1 hP 0 rfl rfl 0 (Nat.le_of_ble_eq_true rfl) (hts _ q1467) (fun _ h => h) rfl dX7_lives_142 ?_
                      refine lv_iload_n hx hb dX7_lives_145 rfl (lv_at hl 0 rfl) ?_
                      refine zr_iald (44 + (6 * s_2.1)) (v := t_6.2.2.1 (44 + (6 * s_2.1))) hx hb hK hP 1 rfl rfl (Nat.le_of_ble_eq_true rfl) rfl (by omega) rfl dX7_lives_146 ?_
                      refine lv_sipush (v := 1500) hx hb dX7_lives_147 (by decide) ?_
                      refine lv_icmp_lt (tgt := 174) hx hb dX7_lives_150 (by decide) (fun c_22 => ?_) (fun c_22 => ?_)
                      · refine lv_iload_n hx hb dX7_lives_174 rfl (lv_at hl 1 rfl) ?_
                        refine lv_iconst (v := 1) hx hb dX7_lives_175 (by decide) ?_
                        refine zr_iaddN s_2.1 1 hx hb dX7_lives_176 ?_
                        refine zr_muV (F := mf_behindEnds t_6.2.2.1 s_2.2.2.2.2.2.1 nn (s_2.1 + 1)) (ff := fun t_23 => mLP t_23.2  ∧ t_23.1 ≤ 61) (rr := fun t_23 => some (.int (nI t_23.1))) (w1 := fun t_23 => (mW G ad m_status m_top m_bottom m_taped m_size m_token m_from m_end m_value m_faultKind m_faultPlace m_faults m_seen m_depth m_counted m_lead m_round m_tried m_triedMany t_6.2.1 (nI (s_2.2.2.1 + 1)) m_isTold m_marks t_6.2.2.1 m_names m_sort m_trayMany m_trays m_tape m_text m_opened t_6.2.2.2.1 m_then m_ways m_further m_canBe t_23.2 (upd t_6.2.2.2.2 0 ((s_2.2.2.2.2.2.2 0) + 0)) m_told0)) ⟨hx, hb, hml, hown, hts⟩ (mt_mf_behindEnds l G ad m_status m_top m_bottom m_taped m_size m_token m_from m_end m_value m_faultKind m_faultPlace m_faults m_seen m_depth m_counted m_lead m_round m_tried m_triedMany t_6.2.1 (nI (s_2.2.2.1 + 1)) m_isTold m_marks t_6.2.2.1 m_names m_sort m_trayMany m_trays m_tape m_text m_opened t_6.2.2.2.1 m_then m_ways m_further m_canBe s_2.2.2.2.2.2.1 (upd t_6.2.2.2.2 0 ((s_2.2.2.2.2.2.2 0) + 0)) m_told0 Wd R nr nc nn (s_2.1 + 1) ok_m_at_t_6 ok_2_m_loops (by omega) H.size) (cwV 1 hts (lw_V q2131 q2133 qs132 q144 q2134) rfl rfl rfl hd_X7_behindEnds ⟨(Nat.le_of_ble_eq_true rfl), (Nat.le_of_ble_eq_true rfl)⟩) hP hD hS hA hK hE 0 7 rfl rfl rfl hl.1 rfl (Nat.le_of_ble_eq_true rfl) dX7_lives_177 ⟨Nat.le_refl _, Nat.le_refl _⟩ (fun t_23 ht_23 hft_23 H locs hP hD hS _ => ?_)
                        refine W.eq (g2 := F0 m 180 ls [.int (nI t_23.1)]) rfl ?_
                        obtain ⟨ok_m_loops_t_23, hk_t_23⟩ := hft_23
                        refine lv_istore_n (lv' := [(2, .int (nI t_23.1)), (3, .int (nI (44 + (6 * s_2.1)))), (0, .ref (ad 0))]) hx hb dX7_lives_180 rfl hl (by decide) rfl (fun ls hl => ?_)
                        refine lv_goto (tgt := 32) hx hb dX7_lives_181 (by decide) ?_
                        exact ih_2 (t_23.1, t_6.2.1, s_2.2.2.1 + 1, t_6.2.2.1, t_6.2.2.2.1, t_23.2, upd t_6.2.2.2.2 0 ((s_2.2.2.2.2.2.2 0) + 0)) (by first | omega | (dsimp only; omega)) ((zw_l (by rw [mf_lives_B32, if_neg c_3, if_neg c_4, if_neg c_5, zlet_eq ht_6, if_pos c_7, if_neg c_21, if_pos c_22, zlet_eq ht_23])).symm.trans hR_2) (by omega) (by first | omega | (dsimp only; omega)) ok_m_at_t_6 ok_m_loops_t_23 H locs hP hD hS ls (lv_sub hl [0, 2] rfl)
                      · have h15 := Int32.not_lt.mp c_22
                        refine lv_aload_n hx hb dX7_lives_153 rfl (lv_at hl 2 rfl) ?_
                        refine lv_iload_n hx hb dX7_lives_154 rfl (lv_at hl 0 rfl) ?_
                        refine zr_muV (F := mf_holds t_6.2.2.1 t_6.2.2.2.1 Wd R s_2.1) (ff := fun t_24 => True) (rr := fun t_24 => some (.int (zb t_24.1))) (w1 := fun t_24 => (mW G ad m_status m_top m_bottom m_taped m_size m_token m_from m_end m_value m_faultKind m_faultPlace m_faults m_seen m_depth m_counted m_lead m_round m_tried m_triedMany t_6.2.1 (nI (s_2.2.2.1 + 1)) m_isTold m_marks t_6.2.2.1 m_names m_sort m_trayMany m_trays m_tape m_text m_opened t_24.2 m_then m_ways m_further m_canBe s_2.2.2.2.2.2.1 (upd t_6.2.2.2.2 0 ((s_2.2.2.2.2.2.2 0) + 0)) m_told0)) ⟨hx, hb, hml, hown, hts⟩ (mt_mf_holds l G ad m_status m_top m_bottom m_taped m_size m_token m_from m_end m_value m_faultKind m_faultPlace m_faults m_seen m_depth m_counted m_lead m_round m_tried m_triedMany t_6.2.1 (nI (s_2.2.2.1 + 1)) m_isTold m_marks t_6.2.2.1 m_names m_sort m_trayMany m_trays m_tape m_text m_opened t_6.2.2.2.1 m_then m_ways m_further m_canBe s_2.2.2.2.2.2.1 (upd t_6.2.2.2.2 0 ((s_2.2.2.2.2.2.2 0) + 0)) m_told0 Wd R nr nc nn s_2.1 ok_m_at_t_6 (by omega) H.size) (cwV 1 hts (lw_V q2127 q2129 qs131 q144 q2130) rfl rfl rfl hd_X7_holds ⟨(Nat.le_of_ble_eq_true rfl), (Nat.le_of_ble_eq_true rfl)⟩) hP hD hS hA hK hE 0 7 rfl rfl rfl hl.1 rfl (Nat.le_of_ble_eq_true rfl) dX7_lives_155 ⟨Nat.le_refl _, Nat.le_refl _⟩ (fun t_24 ht_24 hft_24 H locs hP hD hS _ => ?_)
                        refine W.eq (g2 := F0 m 158 ls [.int (zb t_24.1), .ref (ad 0)]) rfl ?_
                        refine zr_neB t_24.1 (tgt := 174) hx hb dX7_lives_158 (by decide) (fun c_25 => ?_) (fun c_25 => ?_)
                        · refine lv_iload_n hx hb dX7_lives_174 rfl (lv_at hl 1 rfl) ?_
                          refine lv_iconst (v := 1) hx hb dX7_lives_175 (by decide) ?_
                          refine zr_iaddN s_2.1 1 hx hb dX7_lives_176 ?_
                          refine zr_muV (F := mf_behindEnds t_6.2.2.1 s_2.2.2.2.2.2.1 nn (s_2.1 + 1)) (ff := fun t_26 => mLP t_26.2  ∧ t_26.1 ≤ 61) (rr := fun t_26 => some (.int (nI t_26.1))) (w1 := fun t_26 => (mW G ad m_status m_top m_bottom m_taped m_size m_token m_from m_end m_value m_faultKind m_faultPlace m_faults m_seen m_depth m_counted m_lead m_round m_tried m_triedMany t_6.2.1 (nI (s_2.2.2.1 + 1)) m_isTold m_marks t_6.2.2.1 m_names m_sort m_trayMany m_trays m_tape m_text m_opened t_24.2 m_then m_ways m_further m_canBe t_26.2 (upd t_6.2.2.2.2 0 ((s_2.2.2.2.2.2.2 0) + 0)) m_told0)) ⟨hx, hb, hml, hown, hts⟩ (mt_mf_behindEnds l G ad m_status m_top m_bottom m_taped m_size m_token m_from m_end m_value m_faultKind m_faultPlace m_faults m_seen m_depth m_counted m_lead m_round m_tried m_triedMany t_6.2.1 (nI (s_2.2.2.1 + 1)) m_isTold m_marks t_6.2.2.1 m_names m_sort m_trayMany m_trays m_tape m_text m_opened t_24.2 m_then m_ways m_further m_canBe s_2.2.2.2.2.2.1 (upd t_6.2.2.2.2 0 ((s_2.2.2.2.2.2.2 0) + 0)) m_told0 Wd R nr nc nn (s_2.1 + 1) ok_m_at_t_6 ok_2_m_loops (by omega) H.size) (cwV 1 hts (lw_V q2131 q2133 qs132 q144 q2134) rfl rfl rfl hd_X7_behindEnds ⟨(Nat.le_of_ble_eq_true rfl), (Nat.le_of_ble_eq_true rfl)⟩) hP hD hS hA hK hE 0 7 rfl rfl rfl hl.1 rfl (Nat.le_of_ble_eq_true rfl) dX7_lives_177 ⟨Nat.le_refl _, Nat.le_refl _⟩ (fun t_26 ht_26 hft_26 H locs hP hD hS _ => ?_)
                          refine W.eq (g2 := F0 m 180 ls [.int (nI t_26.1)]) rfl ?_
                          obtain ⟨ok_m_loops_t_26, hk_t_26⟩ := hft_26
                          refine lv_istore_n (lv' := [(2, .int (nI t_26.1)), (3, .int (nI (44 + (6 * s_2.1)))), (0, .ref (ad 0))]) hx hb dX7_lives_180 rfl hl (by decide) rfl (fun ls hl => ?_)
                          refine lv_goto (tgt := 32) hx hb dX7_lives_181 (by decide) ?_
                          exact ih_2 (t_26.1, t_6.2.1, s_2.2.2.1 + 1, t_6.2.2.1, t_24.2, t_26.2, upd t_6.2.2.2.2 0 ((s_2.2.2.2.2.2.2 0) + 0)) (by first | omega | (dsimp only; omega)) ((zw_l (by rw [mf_lives_B32, if_neg c_3, if_neg c_4, if_neg c_5, zlet_eq ht_6, if_pos c_7, if_neg c_21, if_neg c_22, zlet_eq ht_24, if_pos c_25, zlet_eq ht_26])).symm.trans hR_2) (by omega) (by first | omega | (dsimp only; omega)) ok_m_at_t_6 ok_m_loops_t_26 H locs hP hD hS ls (lv_sub hl [0, 2] rfl)
                        · have hwc := (ok_m_at_t_6.2.2.2 _ hkn).2.2.2.2 h15
                          refine lv_aload_n hx hb dX7_lives_161 rfl (lv_at hl 2 rfl) ?_
                          refine va_get (D := G.1) (ci := 7) (v := .ref (ad 1)) (C := RX7) (T := TX7) (N := 39) hx hb hts in_X7 hown hK.1 hP 0 rfl rfl 0 (Nat.le_of_ble_eq_true rfl) (hts _ q1467) (fun _ h => h) rfl dX7_lives_162 ?_
                          refine lv_iload_n hx hb dX7_lives_165 rfl (lv_at hl 0 rfl) ?_
                          refine lv_iconst (v := 4) hx hb dX7_lives_166 (by decide) ?_
                          refine zr_iaddN (44 + (6 * s_2.1)) 4 hx hb dX7_lives_167 ?_
                          refine zr_val (v' := .int (nI (44 + (6 * s_2.1) + 4))) (by rfl) ?_
                          refine zr_iald (44 + (6 * s_2.1) + 4) (v := nI (((t_6.2.2.1 (44 + (6 * s_2.1) + 4))).toNatClampNeg)) hx hb hK hP 1 rfl rfl (Nat.le_of_ble_eq_true rfl) rfl (by omega) (z_nn hwc.1) dX7_lives_168 ?_
                          refine lv_iconst (v := 1) hx hb dX7_lives_169 (by decide) ?_
                          refine zr_iaddN (((t_6.2.2.1 (44 + (6 * s_2.1) + 4))).toNatClampNeg) 1 hx hb dX7_lives_170 ?_
                          refine zr_val (v' := .int (nI (((t_6.2.2.1 (44 + (6 * s_2.1) + 4))).toNatClampNeg + 1))) (by rfl) ?_
                          refine lv_goto (tgt := 177) hx hb dX7_lives_171 (by decide) ?_
                          refine zr_muV (F := mf_behindEnds t_6.2.2.1 s_2.2.2.2.2.2.1 nn (((t_6.2.2.1 (44 + (6 * s_2.1) + 4))).toNatClampNeg + 1)) (ff := fun t_27 => mLP t_27.2  ∧ t_27.1 ≤ 61) (rr := fun t_27 => some (.int (nI t_27.1))) (w1 := fun t_27 => (mW G ad m_status m_top m_bottom m_taped m_size m_token m_from m_end m_value m_faultKind m_faultPlace m_faults m_seen m_depth m_counted m_lead m_round m_tried m_triedMany t_6.2.1 (nI (s_2.2.2.1 + 1)) m_isTold m_marks t_6.2.2.1 m_names m_sort m_trayMany m_trays m_tape m_text m_opened t_24.2 m_then m_ways m_further m_canBe t_27.2 (upd t_6.2.2.2.2 0 ((s_2.2.2.2.2.2.2 0) + 0)) m_told0)) ⟨hx, hb, hml, hown, hts⟩ (mt_mf_behindEnds l G ad m_status m_top m_bottom m_taped m_size m_token m_from m_end m_value m_faultKind m_faultPlace m_faults m_seen m_depth m_counted m_lead m_round m_tried m_triedMany t_6.2.1 (nI (s_2.2.2.1 + 1)) m_isTold m_marks t_6.2.2.1 m_names m_sort m_trayMany m_trays m_tape m_text m_opened t_24.2 m_then m_ways m_further m_canBe s_2.2.2.2.2.2.1 (upd t_6.2.2.2.2 0 ((s_2.2.2.2.2.2.2 0) + 0)) m_told0 Wd R nr nc nn (((t_6.2.2.1 (44 + (6 * s_2.1) + 4))).toNatClampNeg + 1) ok_m_at_t_6 ok_2_m_loops (by omega) H.size) (cwV 1 hts (lw_V q2131 q2133 qs132 q144 q2134) rfl rfl rfl hd_X7_behindEnds ⟨(Nat.le_of_ble_eq_true rfl), (Nat.le_of_ble_eq_true rfl)⟩) hP hD hS hA hK hE 0 7 rfl rfl rfl hl.1 rfl (Nat.le_of_ble_eq_true rfl) dX7_lives_177 ⟨Nat.le_refl _, Nat.le_refl _⟩ (fun t_27 ht_27 hft_27 H locs hP hD hS _ => ?_)
                          refine W.eq (g2 := F0 m 180 ls [.int (nI t_27.1)]) rfl ?_
                          obtain ⟨ok_m_loops_t_27, hk_t_27⟩ := hft_27
                          refine lv_istore_n (lv' := [(2, .int (nI t_27.1)), (3, .int (nI (44 + (6 * s_2.1)))), (0, .ref (ad 0))]) hx hb dX7_lives_180 rfl hl (by decide) rfl (fun ls hl => ?_)
                          refine lv_goto (tgt := 32) hx hb dX7_lives_181 (by decide) ?_
                          exact ih_2 (t_27.1, t_6.2.1, s_2.2.2.1 + 1, t_6.2.2.1, t_24.2, t_27.2, upd t_6.2.2.2.2 0 ((s_2.2.2.2.2.2.2 0) + 0)) (by first | omega | (dsimp only; omega)) ((zw_l (by rw [mf_lives_B32, if_neg c_3, if_neg c_4, if_neg c_5, zlet_eq ht_6, if_pos c_7, if_neg c_21, if_neg c_22, zlet_eq ht_24, if_neg c_25, zlet_eq ht_27])).symm.trans hR_2) (by omega) (by first | omega | (dsimp only; omega)) ok_m_at_t_6 ok_m_loops_t_27 H locs hP hD hS ls (lv_sub hl [0, 2] rfl)
                    · have hlv := mYR_lp ok_m_at_t_6 hkn c_21
                      refine lv_aload_n hx hb dX7_lives_124 rfl (lv_at hl 2 rfl) ?_
                      refine va_get (D := G.1) (ci := 7) (v := .ref (ad 14)) (C := RX7) (T := TX7) (N := 39) hx hb hts in_X7 hown hK.1 hP 0 rfl rfl 34 (Nat.le_of_ble_eq_true rfl) (hts _ q1501) (fun _ h => h) rfl dX7_lives_125 ?_
                      refine lv_iload_n hx hb dX7_lives_128 rfl (lv_at hl 1 rfl) ?_
                      refine lv_aload_n hx hb dX7_lives_129 rfl (lv_at hl 2 rfl) ?_
                      refine va_get (D := G.1) (ci := 7) (v := .ref (ad 1)) (C := RX7) (T := TX7) (N := 39) hx hb hts in_X7 hown hK.1 hP 0 rfl rfl 0 (Nat.le_of_ble_eq_true rfl) (hts _ q1467) (fun _ h => h) rfl dX7_lives_130 ?_
                      refine lv_iload_n hx hb dX7_lives_133 rfl (lv_at hl 0 rfl) ?_
                      refine lv_iconst (v := 1) hx hb dX7_lives_134 (by decide) ?_
                      refine zr_iaddN (44 + (6 * s_2.1)) 1 hx hb dX7_lives_135 ?_
                      refine zr_val (v' := .int (nI (44 + (6 * s_2.1) + 1))) (by rfl) ?_
                      refine zr_iald (44 + (6 * s_2.1) + 1) (v := t_6.2.2.1 (44 + (6 * s_2.1) + 1)) hx hb hK hP 1 rfl rfl (Nat.le_of_ble_eq_true rfl) rfl (by omega) rfl dX7_lives_136 ?_
                      refine lv_iconst (v := 1) hx hb dX7_lives_137 (by decide) ?_
                      refine lv_isub hx hb dX7_lives_138 ?_
                      refine zr_iast s_2.1 (ws' := (mW G ad m_status m_top m_bottom m_taped m_size m_token m_from m_end m_value m_faultKind m_faultPlace m_faults m_seen m_depth m_counted m_lead m_round m_tried m_triedMany t_6.2.1 (nI (s_2.2.2.1 + 1)) m_isTold m_marks t_6.2.2.1 m_names m_sort m_trayMany m_trays m_tape m_text m_opened t_6.2.2.2.1 m_then m_ways m_further m_canBe (upd s_2.2.2.2.2.2.1 s_2.1 ((t_6.2.2.1 (44 + (6 * s_2.1) + 1)) - 1)) (upd t_6.2.2.2.2 0 ((s_2.2.2.2.2.2.2 0) + 0)) m_told0)) hx hb hK hP hD hS 14 rfl rfl (Nat.le_of_ble_eq_true rfl) rfl (by omega) rfl dX7_lives_139 (fun H locs hP hD hS => ?_)
                      refine lv_aload_n hx hb dX7_lives_140 rfl (lv_at hl 2 rfl) ?_
                      refine lv_aload_n hx hb dX7_lives_141 rfl (lv_at hl 2 rfl) ?_
                      refine va_get (D := G.1) (ci := 7) (v := .ref (ad 1)) (C := RX7) (T := TX7) (N := 39) hx hb hts in_X7 hown hK.1 hP 0 rfl rfl 0 (Nat.le_of_ble_eq_true rfl) (hts _ q1467) (fun _ h => h) rfl dX7_lives_142 ?_
                      refine lv_iload_n hx hb dX7_lives_145 rfl (lv_at hl 0 rfl) ?_
                      refine zr_iald (44 + (6 * s_2.1)) (v := t_6.2.2.1 (44 + (6 * s_2.1))) hx hb hK hP 1 rfl rfl (Nat.le_of_ble_eq_true rfl) rfl (by omega) rfl dX7_lives_146 ?_
                      refine lv_sipush (v := 1500) hx hb dX7_lives_147 (by decide) ?_
                      refine lv_icmp_lt (tgt := 174) hx hb dX7_lives_150 (by decide) (fun c_28 => ?_) (fun c_28 => ?_)
                      · refine lv_iload_n hx hb dX7_lives_174 rfl (lv_at hl 1 rfl) ?_
                        refine lv_iconst (v := 1) hx hb dX7_lives_175 (by decide) ?_
                        refine zr_iaddN s_2.1 1 hx hb dX7_lives_176 ?_
                        refine zr_muV (F := mf_behindEnds t_6.2.2.1 (upd s_2.2.2.2.2.2.1 s_2.1 ((t_6.2.2.1 (44 + (6 * s_2.1) + 1)) - 1)) nn (s_2.1 + 1)) (ff := fun t_29 => mLP t_29.2  ∧ t_29.1 ≤ 61) (rr := fun t_29 => some (.int (nI t_29.1))) (w1 := fun t_29 => (mW G ad m_status m_top m_bottom m_taped m_size m_token m_from m_end m_value m_faultKind m_faultPlace m_faults m_seen m_depth m_counted m_lead m_round m_tried m_triedMany t_6.2.1 (nI (s_2.2.2.1 + 1)) m_isTold m_marks t_6.2.2.1 m_names m_sort m_trayMany m_trays m_tape m_text m_opened t_6.2.2.2.1 m_then m_ways m_further m_canBe t_29.2 (upd t_6.2.2.2.2 0 ((s_2.2.2.2.2.2.2 0) + 0)) m_told0)) ⟨hx, hb, hml, hown, hts⟩ (mt_mf_behindEnds l G ad m_status m_top m_bottom m_taped m_size m_token m_from m_end m_value m_faultKind m_faultPlace m_faults m_seen m_depth m_counted m_lead m_round m_tried m_triedMany t_6.2.1 (nI (s_2.2.2.1 + 1)) m_isTold m_marks t_6.2.2.1 m_names m_sort m_trayMany m_trays m_tape m_text m_opened t_6.2.2.2.1 m_then m_ways m_further m_canBe (upd s_2.2.2.2.2.2.1 s_2.1 ((t_6.2.2.1 (44 + (6 * s_2.1) + 1)) - 1)) (upd t_6.2.2.2.2 0 ((s_2.2.2.2.2.2.2 0) + 0)) m_told0 Wd R nr nc nn (s_2.1 + 1) ok_m_at_t_6 (by first | (have h0z := hlv; exact mLP_u ok_2_m_loops h0z) | (have h0z := h0l; exact mLP_d ok_2_m_loops (by omega) h0z) | exact mLP_s ok_2_m_loops (by omega)) (by omega) H.size) (cwV 1 hts (lw_V q2131 q2133 qs132 q144 q2134) rfl rfl rfl hd_X7_behindEnds ⟨(Nat.le_of_ble_eq_true rfl), (Nat.le_of_ble_eq_true rfl)⟩) hP hD hS hA hK hE 0 7 rfl rfl rfl hl.1 rfl (Nat.le_of_ble_eq_true rfl) dX7_lives_177 ⟨Nat.le_refl _, Nat.le_refl _⟩ (fun t_29 ht_29 hft_29 H locs hP hD hS _ => ?_)
                        refine W.eq (g2 := F0 m 180 ls [.int (nI t_29.1)]) rfl ?_
                        obtain ⟨ok_m_loops_t_29, hk_t_29⟩ := hft_29
                        refine lv_istore_n (lv' := [(2, .int (nI t_29.1)), (3, .int (nI (44 + (6 * s_2.1)))), (0, .ref (ad 0))]) hx hb dX7_lives_180 rfl hl (by decide) rfl (fun ls hl => ?_)
                        refine lv_goto (tgt := 32) hx hb dX7_lives_181 (by decide) ?_
                        exact ih_2 (t_29.1, t_6.2.1, s_2.2.2.1 + 1, t_6.2.2.1, t_6.2.2.2.1, t_29.2, upd t_6.2.2.2.2 0 ((s_2.2.2.2.2.2.2 0) + 0)) (by first | omega | (dsimp only; omega)) ((zw_l (by rw [mf_lives_B32, if_neg c_3, if_neg c_4, if_neg c_5, zlet_eq ht_6, if_pos c_7, if_pos c_21, if_pos c_28, zlet_eq ht_29])).symm.trans hR_2) (by omega) (by first | omega | (dsimp only; omega)) ok_m_at_t_6 ok_m_loops_t_29 H locs hP hD hS ls (lv_sub hl [0, 2] rfl)
                      · have h15 := Int32.not_lt.mp c_28
                        refine lv_aload_n hx hb dX7_lives_153 rfl (lv_at hl 2 rfl) ?_
                        refine lv_iload_n hx hb dX7_lives_154 rfl (lv_at hl 0 rfl) ?_
                        refine zr_muV (F := mf_holds t_6.2.2.1 t_6.2.2.2.1 Wd R s_2.1) (ff := fun t_30 => True) (rr := fun t_30 => some (.int (zb t_30.1))) (w1 := fun t_30 => (mW G ad m_status m_top m_bottom m_taped m_size m_token m_from m_end m_value m_faultKind m_faultPlace m_faults m_seen m_depth m_counted m_lead m_round m_tried m_triedMany t_6.2.1 (nI (s_2.2.2.1 + 1)) m_isTold m_marks t_6.2.2.1 m_names m_sort m_trayMany m_trays m_tape m_text m_opened t_30.2 m_then m_ways m_further m_canBe (upd s_2.2.2.2.2.2.1 s_2.1 ((t_6.2.2.1 (44 + (6 * s_2.1) + 1)) - 1)) (upd t_6.2.2.2.2 0 ((s_2.2.2.2.2.2.2 0) + 0)) m_told0)) ⟨hx, hb, hml, hown, hts⟩ (mt_mf_holds l G ad m_status m_top m_bottom m_taped m_size m_token m_from m_end m_value m_faultKind m_faultPlace m_faults m_seen m_depth m_counted m_lead m_round m_tried m_triedMany t_6.2.1 (nI (s_2.2.2.1 + 1)) m_isTold m_marks t_6.2.2.1 m_names m_sort m_trayMany m_trays m_tape m_text m_opened t_6.2.2.2.1 m_then m_ways m_further m_canBe (upd s_2.2.2.2.2.2.1 s_2.1 ((t_6.2.2.1 (44 + (6 * s_2.1) + 1)) - 1)) (upd t_6.2.2.2.2 0 ((s_2.2.2.2.2.2.2 0) + 0)) m_told0 Wd R nr nc nn s_2.1 ok_m_at_t_6 (by omega) H.size) (cwV 1 hts (lw_V q2127 q2129 qs131 q144 q2130) rfl rfl rfl hd_X7_holds ⟨(Nat.le_of_ble_eq_true rfl), (Nat.le_of_ble_eq_true rfl)⟩) hP hD hS hA hK hE 0 7 rfl rfl rfl hl.1 rfl (Nat.le_of_ble_eq_true rfl) dX7_lives_155 ⟨Nat.le_refl _, Nat.le_refl _⟩ (fun t_30 ht_30 hft_30 H locs hP hD hS _ => ?_)
                        refine W.eq (g2 := F0 m 158 ls [.int (zb t_30.1), .ref (ad 0)]) rfl ?_
                        refine zr_neB t_30.1 (tgt := 174) hx hb dX7_lives_158 (by decide) (fun c_31 => ?_) (fun c_31 => ?_)
                        · refine lv_iload_n hx hb dX7_lives_174 rfl (lv_at hl 1 rfl) ?_
                          refine lv_iconst (v := 1) hx hb dX7_lives_175 (by decide) ?_
                          refine zr_iaddN s_2.1 1 hx hb dX7_lives_176 ?_
                          refine zr_muV (F := mf_behindEnds t_6.2.2.1 (upd s_2.2.2.2.2.2.1 s_2.1 ((t_6.2.2.1 (44 + (6 * s_2.1) + 1)) - 1)) nn (s_2.1 + 1)) (ff := fun t_32 => mLP t_32.2  ∧ t_32.1 ≤ 61) (rr := fun t_32 => some (.int (nI t_32.1))) (w1 := fun t_32 => (mW G ad m_status m_top m_bottom m_taped m_size m_token m_from m_end m_value m_faultKind m_faultPlace m_faults m_seen m_depth m_counted m_lead m_round m_tried m_triedMany t_6.2.1 (nI (s_2.2.2.1 + 1)) m_isTold m_marks t_6.2.2.1 m_names m_sort m_trayMany m_trays m_tape m_text m_opened t_30.2 m_then m_ways m_further m_canBe t_32.2 (upd t_6.2.2.2.2 0 ((s_2.2.2.2.2.2.2 0) + 0)) m_told0)) ⟨hx, hb, hml, hown, hts⟩ (mt_mf_behindEnds l G ad m_status m_top m_bottom m_taped m_size m_token m_from m_end m_value m_faultKind m_faultPlace m_faults m_seen m_depth m_counted m_lead m_round m_tried m_triedMany t_6.2.1 (nI (s_2.2.2.1 + 1)) m_isTold m_marks t_6.2.2.1 m_names m_sort m_trayMany m_trays m_tape m_text m_opened t_30.2 m_then m_ways m_further m_canBe (upd s_2.2.2.2.2.2.1 s_2.1 ((t_6.2.2.1 (44 + (6 * s_2.1) + 1)) - 1)) (upd t_6.2.2.2.2 0 ((s_2.2.2.2.2.2.2 0) + 0)) m_told0 Wd R nr nc nn (s_2.1 + 1) ok_m_at_t_6 (by first | (have h0z := hlv; exact mLP_u ok_2_m_loops h0z) | (have h0z := h0l; exact mLP_d ok_2_m_loops (by omega) h0z) | exact mLP_s ok_2_m_loops (by omega)) (by omega) H.size) (cwV 1 hts (lw_V q2131 q2133 qs132 q144 q2134) rfl rfl rfl hd_X7_behindEnds ⟨(Nat.le_of_ble_eq_true rfl), (Nat.le_of_ble_eq_true rfl)⟩) hP hD hS hA hK hE 0 7 rfl rfl rfl hl.1 rfl (Nat.le_of_ble_eq_true rfl) dX7_lives_177 ⟨Nat.le_refl _, Nat.le_refl _⟩ (fun t_32 ht_32 hft_32 H locs hP hD hS _ => ?_)
                          refine W.eq (g2 := F0 m 180 ls [.int (nI t_32.1)]) rfl ?_
                          obtain ⟨ok_m_loops_t_32, hk_t_32⟩ := hft_32
                          refine lv_istore_n (lv' := [(2, .int (nI t_32.1)), (3, .int (nI (44 + (6 * s_2.1)))), (0, .ref (ad 0))]) hx hb dX7_lives_180 rfl hl (by decide) rfl (fun ls hl => ?_)
                          refine lv_goto (tgt := 32) hx hb dX7_lives_181 (by decide) ?_
                          exact ih_2 (t_32.1, t_6.2.1, s_2.2.2.1 + 1, t_6.2.2.1, t_30.2, t_32.2, upd t_6.2.2.2.2 0 ((s_2.2.2.2.2.2.2 0) + 0)) (by first | omega | (dsimp only; omega)) ((zw_l (by rw [mf_lives_B32, if_neg c_3, if_neg c_4, if_neg c_5, zlet_eq ht_6, if_pos c_7, if_pos c_21, if_neg c_28, zlet_eq ht_30, if_pos c_31, zlet_eq ht_32])).symm.trans hR_2) (by omega) (by first | omega | (dsimp only; omega)) ok_m_at_t_6 ok_m_loops_t_32 H locs hP hD hS ls (lv_sub hl [0, 2] rfl)
                        · have hwc := (ok_m_at_t_6.2.2.2 _ hkn).2.2.2.2 h15
                          refine lv_aload_n hx hb dX7_lives_161 rfl (lv_at hl 2 rfl) ?_
                          refine va_get (D := G.1) (ci := 7) (v := .ref (ad 1)) (C := RX7) (T := TX7) (N := 39) hx hb hts in_X7 hown hK.1 hP 0 rfl rfl 0 (Nat.le_of_ble_eq_true rfl) (hts _ q1467) (fun _ h => h) rfl dX7_lives_162 ?_
                          refine lv_iload_n hx hb dX7_lives_165 rfl (lv_at hl 0 rfl) ?_
                          refine lv_iconst (v := 4) hx hb dX7_lives_166 (by decide) ?_
                          refine zr_iaddN (44 + (6 * s_2.1)) 4 hx hb dX7_lives_167 ?_
                          refine zr_val (v' := .int (nI (44 + (6 * s_2.1) + 4))) (by rfl) ?_
                          refine zr_iald (44 + (6 * s_2.1) + 4) (v := nI (((t_6.2.2.1 (44 + (6 * s_2.1) + 4))).toNatClampNeg)) hx hb hK hP 1 rfl rfl (Nat.le_of_ble_eq_true rfl) rfl (by omega) (z_nn hwc.1) dX7_lives_168 ?_
                          refine lv_iconst (v := 1) hx hb dX7_lives_169 (by decide) ?_
                          refine zr_iaddN (((t_6.2.2.1 (44 + (6 * s_2.1) + 4))).toNatClampNeg) 1 hx hb dX7_lives_170 ?_
                          refine zr_val (v' := .int (nI (((t_6.2.2.1 (44 + (6 * s_2.1) + 4))).toNatClampNeg + 1))) (by rfl) ?_
                          refine lv_goto (tgt := 177) hx hb dX7_lives_171 (by decide) ?_
                          refine zr_muV (F := mf_behindEnds t_6.2.2.1 (upd s_2.2.2.2.2.2.1 s_2.1 ((t_6.2.2.1 (44 + (6 * s_2.1) + 1)) - 1)) nn (((t_6.2.2.1 (44 + (6 * s_2.1) + 4))).toNatClampNeg + 1)) (ff := fun t_33 => mLP t_33.2  ∧ t_33.1 ≤ 61) (rr := fun t_33 => some (.int (nI t_33.1))) (w1 := fun t_33 => (mW G ad m_status m_top m_bottom m_taped m_size m_token m_from m_end m_value m_faultKind m_faultPlace m_faults m_seen m_depth m_counted m_lead m_round m_tried m_triedMany t_6.2.1 (nI (s_2.2.2.1 + 1)) m_isTold m_marks t_6.2.2.1 m_names m_sort m_trayMany m_trays m_tape m_text m_opened t_30.2 m_then m_ways m_further m_canBe t_33.2 (upd t_6.2.2.2.2 0 ((s_2.2.2.2.2.2.2 0) + 0)) m_told0)) ⟨hx, hb, hml, hown, hts⟩ (mt_mf_behindEnds l G ad m_status m_top m_bottom m_taped m_size m_token m_from m_end m_value m_faultKind m_faultPlace m_faults m_seen m_depth m_counted m_lead m_round m_tried m_triedMany t_6.2.1 (nI (s_2.2.2.1 + 1)) m_isTold m_marks t_6.2.2.1 m_names m_sort m_trayMany m_trays m_tape m_text m_opened t_30.2 m_then m_ways m_further m_canBe (upd s_2.2.2.2.2.2.1 s_2.1 ((t_6.2.2.1 (44 + (6 * s_2.1) + 1)) - 1)) (upd t_6.2.2.2.2 0 ((s_2.2.2.2.2.2.2 0) + 0)) m_told0 Wd R nr nc nn (((t_6.2.2.1 (44 + (6 * s_2.1) + 4))).toNatClampNeg + 1) ok_m_at_t_6 (by first | (have h0z := hlv; exact mLP_u ok_2_m_loops h0z) | (have h0z := h0l; exact mLP_d ok_2_m_loops (by omega) h0z) | exact mLP_s ok_2_m_loops (by omega)) (by omega) H.size) (cwV 1 hts (lw_V q2131 q2133 qs132 q144 q2134) rfl rfl rfl hd_X7_behindEnds ⟨(Nat.le_of_ble_eq_true rfl), (Nat.le_of_ble_eq_true rfl)⟩) hP hD hS hA hK hE 0 7 rfl rfl rfl hl.1 rfl (Nat.le_of_ble_eq_true rfl) dX7_lives_177 ⟨Nat.le_refl _, Nat.le_refl _⟩ (fun t_33 ht_33 hft_33 H locs hP hD hS _ => ?_)
                          refine W.eq (g2 := F0 m 180 ls [.int (nI t_33.1)]) rfl ?_
                          obtain ⟨ok_m_loops_t_33, hk_t_33⟩ := hft_33
                          refine lv_istore_n (lv' := [(2, .int (nI t_33.1)), (3, .int (nI (44 + (6 * s_2.1)))), (0, .ref (ad 0))]) hx hb dX7_lives_180 rfl hl (by decide) rfl (fun ls hl => ?_)
                          refine lv_goto (tgt := 32) hx hb dX7_lives_181 (by decide) ?_
                          exact ih_2 (t_33.1, t_6.2.1, s_2.2.2.1 + 1, t_6.2.2.1, t_30.2, t_33.2, upd t_6.2.2.2.2 0 ((s_2.2.2.2.2.2.2 0) + 0)) (by first | omega | (dsimp only; omega)) ((zw_l (by rw [mf_lives_B32, if_neg c_3, if_neg c_4, if_neg c_5, zlet_eq ht_6, if_pos c_7, if_pos c_21, if_neg c_28, zlet_eq ht_30, if_neg c_31, zlet_eq ht_33])).symm.trans hR_2) (by omega) (by first | omega | (dsimp only; omega)) ok_m_at_t_6 ok_m_loops_t_33 H locs hP hD hS ls (lv_sub hl [0, 2] rfl)
                · have hr_2 : mf_lives_L32 Wd R nr nc nn (0, seed, 0, m_at, m_beside, m_loops, s_1) = .inr (s_2.2.1, nI (s_2.2.2.1 + 1), s_2.2.2.2.1, s_2.2.2.2.2.1, s_2.2.2.2.2.2.1, s_2.2.2.2.2.2.2) := hR_2.symm.trans (zw_r (by rw [mf_lives_B32, if_neg c_3, if_neg c_4, if_pos c_5]))
                  have e_ : mf_lives m_at m_beside m_loops m_ran Wd R nr nc nn seed = (s_2.2.1, nI (s_2.2.2.1 + 1), s_2.2.2.2.1, s_2.2.2.2.2.1, s_2.2.2.2.2.2.1, s_2.2.2.2.2.2.2) := by rw [mf_lives, zlet_eq hs_1, zcase_r hr_2]
                  exact zr_mv hx hb hr hlocks hP hD hS dX7_lives_90 rfl (by rw [e_]) (by rw [e_]; exact ⟨ok_2_m_at, ok_2_m_loops⟩)
              · refine lv_aload_n hx hb dX7_lives_53 rfl (lv_at hl 1 rfl) ?_
                refine va_get (D := G.1) (ci := 7) (v := .ref (ad 15)) (C := RX7) (T := TX7) (N := 39) hx hb hts in_X7 hown hK.1 hP 0 rfl rfl 35 (Nat.le_of_ble_eq_true rfl) (hts _ q1502) (fun _ h => h) rfl dX7_lives_54 ?_
                refine lv_iconst (v := 4) hx hb dX7_lives_57 (by decide) ?_
                refine lv_iconst (v := 1) hx hb dX7_lives_58 (by decide) ?_
                refine zr_iast 4 (ws' := (mW G ad m_status m_top m_bottom m_taped m_size m_token m_from m_end m_value m_faultKind m_faultPlace m_faults m_seen m_depth m_counted m_lead m_round m_tried m_triedMany s_2.2.1 (nI s_2.2.2.1) m_isTold m_marks s_2.2.2.2.1 m_names m_sort m_trayMany m_trays m_tape m_text m_opened s_2.2.2.2.2.1 m_then m_ways m_further m_canBe s_2.2.2.2.2.2.1 (upd s_2.2.2.2.2.2.2 4 1) m_told0)) hx hb hK hP hD hS 15 rfl rfl (Nat.le_of_ble_eq_true rfl) rfl (by decide) rfl dX7_lives_59 (fun H locs hP hD hS => ?_)
                have hr_2 : mf_lives_L32 Wd R nr nc nn (0, seed, 0, m_at, m_beside, m_loops, s_1) = .inr (s_2.2.1, nI s_2.2.2.1, s_2.2.2.2.1, s_2.2.2.2.2.1, s_2.2.2.2.2.2.1, upd s_2.2.2.2.2.2.2 4 1) := hR_2.symm.trans (zw_r (by rw [mf_lives_B32, if_neg c_3, if_pos c_4]))
                have e_ : mf_lives m_at m_beside m_loops m_ran Wd R nr nc nn seed = (s_2.2.1, nI s_2.2.2.1, s_2.2.2.2.1, s_2.2.2.2.2.1, s_2.2.2.2.2.2.1, upd s_2.2.2.2.2.2.2 4 1) := by rw [mf_lives, zlet_eq hs_1, zcase_r hr_2]
                exact zr_mv hx hb hr hlocks hP hD hS dX7_lives_60 rfl (by rw [e_]) (by rw [e_]; exact ⟨ok_2_m_at, ok_2_m_loops⟩)
        exact hlp_2 _ (0, seed, 0, m_at, m_beside, m_loops, s_1) (Nat.lt_succ_self _) (by rw [mf_lives_L32]) (by omega) (by first | omega | (dsimp only; omega)) hY hL H locs hP hD hS ls (lv_sub hl [0, 1] rfl)
      · have hlt_1 : k_1 < 5 := Nat.lt_of_not_le c_1
        refine lv_aload_n hx hb dX7_lives_17 rfl (lv_at hl 1 rfl) ?_
        refine va_get (D := G.1) (ci := 7) (v := .ref (ad 15)) (C := RX7) (T := TX7) (N := 39) hx hb hts in_X7 hown hK.1 hP 0 rfl rfl 35 (Nat.le_of_ble_eq_true rfl) (hts _ q1502) (fun _ h => h) rfl dX7_lives_18 ?_
        refine lv_iload_n hx hb dX7_lives_21 rfl (lv_at hl 0 rfl) ?_
        refine lv_iconst (v := 0) hx hb dX7_lives_22 (by decide) ?_
        refine zr_iast k_1 (ws' := (mW G ad m_status m_top m_bottom m_taped m_size m_token m_from m_end m_value m_faultKind m_faultPlace m_faults m_seen m_depth m_counted m_lead m_round m_tried m_triedMany seed 0 m_isTold m_marks m_at m_names m_sort m_trayMany m_trays m_tape m_text m_opened m_beside m_then m_ways m_further m_canBe m_loops (upd s_1 k_1 0) m_told0)) hx hb hK hP hD hS 15 rfl rfl (Nat.le_of_ble_eq_true rfl) rfl (by omega) rfl dX7_lives_23 (fun H locs hP hD hS => ?_)
        refine lv_iinc (v := nI (k_1 + 1)) (lv' := [(2, .int (nI (k_1 + 1))), (0, .ref (ad 0))]) hx hb dX7_lives_24 hl (k := 0) rfl (nI_add k_1 1) (by decide) rfl (fun ls hl => ?_)
        refine lv_goto (tgt := 12) hx hb dX7_lives_27 (by decide) ?_
        exact ih_1 (k_1 + 1) (upd s_1 k_1 0) hlt_1 (by omega) (zf_s hst_1 (by rw [mf_lives_B12])) H locs hP hD hS ls (lv_sub hl [0, 1] rfl)
  exact hlp_1 (5 + 1) 0 m_ran (Nat.zero_le _) (by omega) rfl H locs hP hD hS ls (lv_sub hl [0, 1] rfl)
