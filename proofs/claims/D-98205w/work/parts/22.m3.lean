theorem isFrom_t {x : Int32} {a N : Nat} (ha : a < 2 ^ 31) (hN : N < 2 ^ 31) (h : mf_isFrom x.toInt64 (lN a) (lN N) = true) : ¬ x < 0 ∧ a ≤ x.toNatClampNeg ∧ x.toNatClampNeg ≤ N := by
  unfold mf_isFrom at h
  have e : x.toInt64.toInt = x.toInt := Int32.toInt_toInt64 x
  by_cases h1 : x.toInt64 < lN a
  · rw [if_pos h1] at h; cases h
  · rw [if_neg h1] at h
    by_cases h2 : lN N < x.toInt64
    · rw [if_pos h2] at h; cases h
    · have q1 := Int64.le_iff_toInt_le.mp (Int64.not_lt.mp h1)
      have q2 := Int64.le_iff_toInt_le.mp (Int64.not_lt.mp h2)
      rw [e, lN_toInt ha] at q1
      rw [e, lN_toInt hN] at q2
      have q0 : ¬ x < 0 := fun q => by
        have := Int32.lt_iff_toInt_lt.mp q
        have z : (0 : Int32).toInt = 0 := rfl
        omega
      refine ⟨q0, ?_⟩
      obtain ⟨j, hj, rfl⟩ := nI_of q0
      rw [nI_clamp hj]
      rw [nI_toInt hj] at q1 q2
      omega
theorem isPlace_t {Wd R : Nat} {x y : Int32} (hW : Wd < 2 ^ 31) (hR : R < 2 ^ 31) (h : mf_isPlace Wd R x y = true) : (¬ x < 0 ∧ x.toNatClampNeg < Wd) ∧ (¬ y < 0 ∧ y.toNatClampNeg < R) := by
  unfold mf_isPlace at h
  by_cases h1 : x < 0
  · rw [if_pos h1] at h; cases h
  · rw [if_neg h1] at h
    by_cases h2 : nI Wd ≤ x
    · rw [if_pos h2] at h; cases h
    · rw [if_neg h2] at h
      by_cases h3 : y < 0
      · rw [if_pos h3] at h; cases h
      · rw [if_neg h3] at h
        by_cases h4 : nI R ≤ y
        · rw [if_pos h4] at h; cases h
        · exact ⟨⟨h1, z_nge Wd hW h1 h2⟩, h3, z_nge R hR h3 h4⟩
theorem wrongHouse_0 {m_at : Nat → Int32} {Wd R : Nat} {x y : Int32} (h : mf_wrongHouse m_at Wd R x y ≤ 0) : mf_isPlace Wd R x y = true := by
  unfold mf_wrongHouse at h
  by_cases h1 : mf_isPlace Wd R x y = true
  · exact h1
  · rw [if_neg h1] at h; exact absurd h (by decide)
theorem z_cell {Wd R x y : Nat} (hWR : Wd * R ≤ 30) (hx : x < Wd) (hy : y < R) : Wd * y + x < 30 := by
  have h1 : Wd * (y + 1) ≤ Wd * R := Nat.mul_le_mul_left _ hy
  rw [Nat.mul_succ] at h1
  omega

def mf_after_B9 (m_at : Nat → Int32) (Wd : Nat) (R : Nat) (nights : Nat) (t_1 : (Nat → Int32)) (k_2 : Nat) (s_2 : Int32) : Int32 :=
  mf_becomes m_at t_1 Wd R s_2 (m_at 10)
def mf_after_L9 (m_at : Nat → Int32) (Wd : Nat) (R : Nat) (nights : Nat) (t_1 : (Nat → Int32)) (s_2 : Int32) : Int32 := zf (mf_after_B9 m_at Wd R nights t_1) s_2 nights
def mf_after (m_at : Nat → Int32) (m_beside : Nat → Int32) (Wd : Nat) (R : Nat) (lit : Int32) (nights : Nat) : Int32 × (Nat → Int32) :=
  zlet (mf_laysNear m_at m_beside Wd R) (fun t_1 =>
  zlet (mf_after_L9 m_at Wd R nights t_1 lit) (fun s_2 =>
  (s_2, t_1)))
theorem hd_X7_after : yX7_after.cls = RX7 ∧ yX7_after.cls ≠ "java/lang/invoke/MethodHandle" ∧ yX7_after.cls ≠ "java/lang/invoke/VarHandle" ∧ (parseMethodDescriptor yX7_after.desc).map (fun d => d.parameters.length) = some 2 := by decide +kernel
set_option maxHeartbeats 4000000 in
set_option maxRecDepth 100000 in
theorem mt_mf_after (l : Launch) (G : zG) (ad : Nat → Nat) (m_status : Int32) (m_top : Int64) (m_bottom : Int64) (m_taped : Int32) (m_size : Int32) (m_token : Int32) (m_from : Int32) (m_end : Int32) (m_value : Int32) (m_faultKind : Int32) (m_faultPlace : Int32) (m_faults : Int32) (m_seen : Int32) (m_depth : Int32) (m_counted : Int32) (m_lead : Int32) (m_round : Int32) (m_tried : Int32) (m_triedMany : Int32) (m_drawn : Int32) (m_ranSteps : Int32) (m_isTold : Bool) (m_marks : Int32) (m_at : Nat → Int32) (m_names : Nat → Int64) (m_sort : Nat → Int32) (m_trayMany : Nat → Int32) (m_trays : Nat → Int64) (m_tape : Nat → Int32) (m_text : Nat → Int32) (m_opened : Nat → Int32) (m_beside : Nat → Int32) (m_then : Nat → Int32) (m_ways : Nat → Int64) (m_further : Nat → Int64) (m_canBe : Nat → Int32) (m_loops : Nat → Int32) (m_ran : Nat → Int32) (m_told0 : Nat → Int32) (Wd : Nat) (R : Nat) (nr : Nat) (nc : Nat) (lit : Int32) (nights : Nat) (hG : mOK m_at Wd R nr nc) (hnn : nights < 2 ^ 31) (sz : Nat) : Met l yX7_after (ws_ yX7_after cX7_after 5 (some .int)) (zR 4 0 0) (zPm G sz [.ref (ad 0), .int lit, .int (nI nights)] (mW G ad m_status m_top m_bottom m_taped m_size m_token m_from m_end m_value m_faultKind m_faultPlace m_faults m_seen m_depth m_counted m_lead m_round m_tried m_triedMany m_drawn m_ranSteps m_isTold m_marks m_at m_names m_sort m_trayMany m_trays m_tape m_text m_opened m_beside m_then m_ways m_further m_canBe m_loops m_ran m_told0)) (zQm G (True) (some (.int ((mf_after m_at m_beside Wd R lit nights).1))) (mW G ad m_status m_top m_bottom m_taped m_size m_token m_from m_end m_value m_faultKind m_faultPlace m_faults m_seen m_depth m_counted m_lead m_round m_tried m_triedMany m_drawn m_ranSteps m_isTold m_marks m_at m_names m_sort m_trayMany m_trays m_tape m_text m_opened ((mf_after m_at m_beside Wd R lit nights).2) m_then m_ways m_further m_canBe m_loops m_ran m_told0) (va_A (mW G ad m_status m_top m_bottom m_taped m_size m_token m_from m_end m_value m_faultKind m_faultPlace m_faults m_seen m_depth m_counted m_lead m_round m_tried m_triedMany m_drawn m_ranSteps m_isTold m_marks m_at m_names m_sort m_trayMany m_trays m_tape m_text m_opened m_beside m_then m_ways m_further m_canBe m_loops m_ran m_told0) sz)) 0 0 (va_A (mW G ad m_status m_top m_bottom m_taped m_size m_token m_from m_end m_value m_faultKind m_faultPlace m_faults m_seen m_depth m_counted m_lead m_round m_tried m_triedMany m_drawn m_ranSteps m_isTold m_marks m_at m_names m_sort m_trayMany m_trays m_tape m_text m_opened m_beside m_then m_ways m_further m_canBe m_loops m_ran m_told0) sz) := by
  refine zr_entM (by decide) (Nat.le_of_ble_eq_true rfl) ?_
  intro p e s m below meth c ⟨hx, hb, hr, hml, hown, hts, hlocks, hnm⟩ ls hl hP hK A hE hA hD hS
  have hown : s.vm.findClass RX7 = some m.cls := hown
  have hl : lv_has ls 5 [(0, .ref (ad 0)), (1, .int lit), (2, .int (nI nights))] := hl
  obtain ⟨H, hH⟩ : ∃ H, H = s.heap := ⟨_, rfl⟩
  obtain ⟨locs, hlo⟩ : ∃ L : List Loc, L = [] := ⟨_, rfl⟩
  rw [← hH] at hP
  have hS : va_S A s.heap H locs := by rw [hH, hlo]; exact va_S.rf
  have hgo : W p l e (zR 4 0 0) s m ([.ref (ad 0), .int lit, .int (nI nights)] : List Value).toArray below meth c H locs 0 0 (MQ below (zQm G (True) (some (.int ((mf_after m_at m_beside Wd R lit nights).1))) (mW G ad m_status m_top m_bottom m_taped m_size m_token m_from m_end m_value m_faultKind m_faultPlace m_faults m_seen m_depth m_counted m_lead m_round m_tried m_triedMany m_drawn m_ranSteps m_isTold m_marks m_at m_names m_sort m_trayMany m_trays m_tape m_text m_opened ((mf_after m_at m_beside Wd R lit nights).2) m_then m_ways m_further m_canBe m_loops m_ran m_told0) A) ([.ref (ad 0), .int lit, .int (nI nights)] : List Value).toArray s 0 0 A) (F0 m 0 ls []) := ?_
  · rw [hH, hlo] at hgo; exact hgo
  clear hH hlo
  have hWR := mOK_WR hG
  have hW0 := mOK_W0 hG
  have hW5 := mOK_W5 hG
  have hR0 := mOK_R0 hG
  have hR6 := mOK_R6 hG
  have hn4 := mOK_n4 hG
  have hc6 := mOK_c6 hG
  refine lv_aload_n hx hb dX7_after_0 rfl (lv_at hl 0 rfl) ?_
  refine zr_muV (F := mf_laysNear m_at m_beside Wd R) (ff := fun t_1 => True) (rr := fun t_1 => none) (w1 := fun t_1 => (mW G ad m_status m_top m_bottom m_taped m_size m_token m_from m_end m_value m_faultKind m_faultPlace m_faults m_seen m_depth m_counted m_lead m_round m_tried m_triedMany m_drawn m_ranSteps m_isTold m_marks m_at m_names m_sort m_trayMany m_trays m_tape m_text m_opened t_1 m_then m_ways m_further m_canBe m_loops m_ran m_told0)) ⟨hx, hb, hml, hown, hts⟩ (mt_mf_laysNear l G ad m_status m_top m_bottom m_taped m_size m_token m_from m_end m_value m_faultKind m_faultPlace m_faults m_seen m_depth m_counted m_lead m_round m_tried m_triedMany m_drawn m_ranSteps m_isTold m_marks m_at m_names m_sort m_trayMany m_trays m_tape m_text m_opened m_beside m_then m_ways m_further m_canBe m_loops m_ran m_told0 Wd R nr nc hG H.size) (cwV 0 hts (lw_V q1889 q1891 qs105 q144 q1892) rfl rfl rfl hd_X7_laysNear ⟨(Nat.le_of_ble_eq_true rfl), (Nat.le_of_ble_eq_true rfl)⟩) hP hD hS hA hK hE 0 7 rfl rfl rfl hl.1 rfl (Nat.le_of_ble_eq_true rfl) dX7_after_1 ⟨Nat.le_refl _, Nat.le_refl _⟩ (fun t_1 ht_1 hft_1 H locs hP hD hS _ => ?_)
  refine W.eq (g2 := F0 m 4 ls []) rfl ?_
  refine lv_iload_n hx hb dX7_after_4 rfl (lv_at hl 1 rfl) ?_
  refine lv_istore_n (lv' := [(3, .int lit), (0, .ref (ad 0)), (1, .int lit), (2, .int (nI nights))]) hx hb dX7_after_5 rfl hl (by decide) rfl (fun ls hl => ?_)
  refine lv_iconst (v := 0) hx hb dX7_after_6 (by decide) ?_
  refine lv_istore (lv' := [(4, .int 0), (3, .int lit), (0, .ref (ad 0)), (1, .int lit), (2, .int (nI nights))]) hx hb dX7_after_7 hl (by decide) rfl (fun ls hl => ?_)
  have hlp_2 : ∀ (n k_2 : Nat) (s_2 : Int32), k_2 ≤ nights → nights < k_2 + n → zf (mf_after_B9 m_at Wd R nights t_1) lit k_2 = s_2 → ∀ (H : Heap) (locs : List Loc), va_P G.1 zcl (mW G ad m_status m_top m_bottom m_taped m_size m_token m_from m_end m_value m_faultKind m_faultPlace m_faults m_seen m_depth m_counted m_lead m_round m_tried m_triedMany m_drawn m_ranSteps m_isTold m_marks m_at m_names m_sort m_trayMany m_trays m_tape m_text m_opened t_1 m_then m_ways m_further m_canBe m_loops m_ran m_told0) H → va_D A (mW G ad m_status m_top m_bottom m_taped m_size m_token m_from m_end m_value m_faultKind m_faultPlace m_faults m_seen m_depth m_counted m_lead m_round m_tried m_triedMany m_drawn m_ranSteps m_isTold m_marks m_at m_names m_sort m_trayMany m_trays m_tape m_text m_opened t_1 m_then m_ways m_further m_canBe m_loops m_ran m_told0) → va_S A s.heap H locs → ∀ ls : Array Slot, lv_has ls 5 [(4, .int (nI k_2)), (3, .int s_2), (0, .ref (ad 0)), (2, .int (nI nights))] → W p l e (zR 4 0 0) s m ([.ref (ad 0), .int lit, .int (nI nights)] : List Value).toArray below meth c H locs 0 0 (MQ below (zQm G (True) (some (.int ((mf_after m_at m_beside Wd R lit nights).1))) (mW G ad m_status m_top m_bottom m_taped m_size m_token m_from m_end m_value m_faultKind m_faultPlace m_faults m_seen m_depth m_counted m_lead m_round m_tried m_triedMany m_drawn m_ranSteps m_isTold m_marks m_at m_names m_sort m_trayMany m_trays m_tape m_text m_opened ((mf_after m_at m_beside Wd R lit nights).2) m_then m_ways m_further m_canBe m_loops m_ran m_told0) A) ([.ref (ad 0), .int lit, .int (nI nights)] : List Value).toArray s 0 0 A) (F0 m 9 ls []) := by
    intro n
    induction n with
    | zero => intro k_2 s_2 h1 h2; exact absurd h2 (by omega)
    | succ n ih_2 =>
      intro k_2 s_2 hk_2 hn_2 hst_2 H locs hP hD hS ls hl
      refine lv_iload hx hb dX7_after_9 (lv_at hl 0 rfl) ?_
      refine lv_iload_n hx hb dX7_after_11 rfl (lv_at hl 3 rfl) ?_
      refine zr_ge k_2 nights (by omega) (by omega) (tgt := 34) hx hb dX7_after_12 (by decide) (fun c_2 => ?_) (fun c_2 => ?_)
      · have ek_2 : k_2 = nights := Nat.le_antisymm hk_2 c_2
        have hs_2 : mf_after_L9 m_at Wd R nights t_1 lit = s_2 := by rw [ek_2] at hst_2; exact hst_2
        have hl := lv_sub hl (l' := _) [1, 2, 3] rfl
        refine lv_iload_n hx hb dX7_after_34 rfl (lv_at hl 0 rfl) ?_
        have e_ : mf_after m_at m_beside Wd R lit nights = (s_2, t_1) := by rw [mf_after, zlet_eq ht_1, zlet_eq hs_2]
        exact zr_mi hx hb hr hlocks hP hD hS dX7_after_35 (by rw [e_])  (by rw [e_]) trivial
      · have hlt_2 : k_2 < nights := Nat.lt_of_not_le c_2
        refine lv_aload_n hx hb dX7_after_15 rfl (lv_at hl 2 rfl) ?_
        refine lv_iload_n hx hb dX7_after_16 rfl (lv_at hl 1 rfl) ?_
        refine lv_aload_n hx hb dX7_after_17 rfl (lv_at hl 2 rfl) ?_
        refine va_get (D := G.1) (ci := 7) (v := .ref (ad 1)) (C := RX7) (T := TX7) (N := 39) hx hb hts in_X7 hown hK.1 hP 0 rfl rfl 0 (Nat.le_of_ble_eq_true rfl) (hts _ q1467) (fun _ h => h) rfl dX7_after_18 ?_
        refine lv_bipush (v := 10) hx hb dX7_after_21 (by decide) ?_
        refine zr_iald 10 (v := m_at 10) hx hb hK hP 1 rfl rfl (Nat.le_of_ble_eq_true rfl) rfl (by decide) rfl dX7_after_23 ?_
        refine zr_obV ⟨hx, hb, hml, hown, hts⟩ (mt_mf_becomes l G ad m_status m_top m_bottom m_taped m_size m_token m_from m_end m_value m_faultKind m_faultPlace m_faults m_seen m_depth m_counted m_lead m_round m_tried m_triedMany m_drawn m_ranSteps m_isTold m_marks m_at m_names m_sort m_trayMany m_trays m_tape m_text m_opened t_1 m_then m_ways m_further m_canBe m_loops m_ran m_told0 Wd R nr nc s_2 (m_at 10) hG (mOK_by hG)) (cwV 2 hts (lw_V q1893 q1895 qs106 q144 q1896) rfl rfl rfl hd_X7_becomes ⟨(Nat.le_of_ble_eq_true rfl), (Nat.le_of_ble_eq_true rfl)⟩) hP hK (zE_o hE hS) 0 7 rfl rfl rfl hl.1 rfl (Nat.le_of_ble_eq_true rfl) dX7_after_24 ⟨Nat.le_refl _, Nat.le_refl _⟩ ?_
        refine lv_istore_n (lv' := [(3, .int (mf_becomes m_at t_1 Wd R s_2 (m_at 10))), (4, .int (nI k_2)), (0, .ref (ad 0)), (2, .int (nI nights))]) hx hb dX7_after_27 rfl hl (by decide) rfl (fun ls hl => ?_)
        refine lv_iinc (v := nI (k_2 + 1)) (lv' := [(4, .int (nI (k_2 + 1))), (3, .int (mf_becomes m_at t_1 Wd R s_2 (m_at 10))), (0, .ref (ad 0)), (2, .int (nI nights))]) hx hb dX7_after_28 hl (k := 1) rfl (nI_add k_2 1) (by decide) rfl (fun ls hl => ?_)
        refine lv_goto (tgt := 9) hx hb dX7_after_31 (by decide) ?_
        exact ih_2 (k_2 + 1) (mf_becomes m_at t_1 Wd R s_2 (m_at 10)) hlt_2 (by omega) (zf_s hst_2 (by rw [mf_after_B9])) H locs hP hD hS ls (lv_sub hl [0, 1, 2, 3] rfl)
  exact hlp_2 (nights + 1) 0 lit (Nat.zero_le _) (by omega) rfl H locs hP hD hS ls (lv_sub hl [0, 1, 2, 4] rfl)
def mf_told (m_at : Nat → Int32) (what : Int32) : Int32 × Int32 :=
  (if what < 0 then
    ((-1), 1)
  else
    (if what ≤ 10 then
      (if what = 10 then
        zlet (mf_orNone (m_at 10)) (fun t_10 =>
        (t_10.1, t_10.2))
      else
        (if what < 2 then
          (m_at what.toNatClampNeg, 0)
        else
          (if 4 < what then
            (m_at what.toNatClampNeg, 0)
          else
            (nI (zpc (m_at what.toNatClampNeg)), 0))))
    else
      ((-1), 1)))
theorem hd_X7_told : yX7_told.cls = RX7 ∧ yX7_told.cls ≠ "java/lang/invoke/MethodHandle" ∧ yX7_told.cls ≠ "java/lang/invoke/VarHandle" ∧ (parseMethodDescriptor yX7_told.desc).map (fun d => d.parameters.length) = some 1 := by decide +kernel
set_option maxHeartbeats 4000000 in
set_option maxRecDepth 100000 in
theorem mt_mf_told (l : Launch) (G : zG) (ad : Nat → Nat) (m_status : Int32) (m_top : Int64) (m_bottom : Int64) (m_taped : Int32) (m_size : Int32) (m_token : Int32) (m_from : Int32) (m_end : Int32) (m_value : Int32) (m_faultKind : Int32) (m_faultPlace : Int32) (m_faults : Int32) (m_seen : Int32) (m_depth : Int32) (m_counted : Int32) (m_lead : Int32) (m_round : Int32) (m_tried : Int32) (m_triedMany : Int32) (m_drawn : Int32) (m_ranSteps : Int32) (m_isTold : Bool) (m_marks : Int32) (m_at : Nat → Int32) (m_names : Nat → Int64) (m_sort : Nat → Int32) (m_trayMany : Nat → Int32) (m_trays : Nat → Int64) (m_tape : Nat → Int32) (m_text : Nat → Int32) (m_opened : Nat → Int32) (m_beside : Nat → Int32) (m_then : Nat → Int32) (m_ways : Nat → Int64) (m_further : Nat → Int64) (m_canBe : Nat → Int32) (m_loops : Nat → Int32) (m_ran : Nat → Int32) (m_told0 : Nat → Int32) (Wd : Nat) (R : Nat) (nr : Nat) (nc : Nat) (what : Int32) (hG : mOK m_at Wd R nr nc) (sz : Nat) : Met l yX7_told (ws_ yX7_told cX7_told 2 (some .int)) (zR 3 0 0) (zPm G sz [.ref (ad 0), .int what] (mW G ad m_status m_top m_bottom m_taped m_size m_token m_from m_end m_value m_faultKind m_faultPlace m_faults m_seen m_depth m_counted m_lead m_round m_tried m_triedMany m_drawn m_ranSteps m_isTold m_marks m_at m_names m_sort m_trayMany m_trays m_tape m_text m_opened m_beside m_then m_ways m_further m_canBe m_loops m_ran m_told0)) (zQm G (True) (some (.int ((mf_told m_at what).1))) (mW G ad ((mf_told m_at what).2) m_top m_bottom m_taped m_size m_token m_from m_end m_value m_faultKind m_faultPlace m_faults m_seen m_depth m_counted m_lead m_round m_tried m_triedMany m_drawn m_ranSteps m_isTold m_marks m_at m_names m_sort m_trayMany m_trays m_tape m_text m_opened m_beside m_then m_ways m_further m_canBe m_loops m_ran m_told0) (va_A (mW G ad m_status m_top m_bottom m_taped m_size m_token m_from m_end m_value m_faultKind m_faultPlace m_faults m_seen m_depth m_counted m_lead m_round m_tried m_triedMany m_drawn m_ranSteps m_isTold m_marks m_at m_names m_sort m_trayMany m_trays m_tape m_text m_opened m_beside m_then m_ways m_further m_canBe m_loops m_ran m_told0) sz)) 0 0 (va_A (mW G ad m_status m_top m_bottom m_taped m_size m_token m_from m_end m_value m_faultKind m_faultPlace m_faults m_seen m_depth m_counted m_lead m_round m_tried m_triedMany m_drawn m_ranSteps m_isTold m_marks m_at m_names m_sort m_trayMany m_trays m_tape m_text m_opened m_beside m_then m_ways m_further m_canBe m_loops m_ran m_told0) sz) := by
  refine zr_entM (by decide) (Nat.le_of_ble_eq_true rfl) ?_
  intro p e s m below meth c ⟨hx, hb, hr, hml, hown, hts, hlocks, hnm⟩ ls hl hP hK A hE hA hD hS
  have hown : s.vm.findClass RX7 = some m.cls := hown
  have hl : lv_has ls 2 [(0, .ref (ad 0)), (1, .int what)] := hl
  obtain ⟨H, hH⟩ : ∃ H, H = s.heap := ⟨_, rfl⟩
  obtain ⟨locs, hlo⟩ : ∃ L : List Loc, L = [] := ⟨_, rfl⟩
  rw [← hH] at hP
  have hS : va_S A s.heap H locs := by rw [hH, hlo]; exact va_S.rf
  have hgo : W p l e (zR 3 0 0) s m ([.ref (ad 0), .int what] : List Value).toArray below meth c H locs 0 0 (MQ below (zQm G (True) (some (.int ((mf_told m_at what).1))) (mW G ad ((mf_told m_at what).2) m_top m_bottom m_taped m_size m_token m_from m_end m_value m_faultKind m_faultPlace m_faults m_seen m_depth m_counted m_lead m_round m_tried m_triedMany m_drawn m_ranSteps m_isTold m_marks m_at m_names m_sort m_trayMany m_trays m_tape m_text m_opened m_beside m_then m_ways m_further m_canBe m_loops m_ran m_told0) A) ([.ref (ad 0), .int what] : List Value).toArray s 0 0 A) (F0 m 0 ls []) := ?_
  · rw [hH, hlo] at hgo; exact hgo
  clear hH hlo
  have hWR := mOK_WR hG
  have hW0 := mOK_W0 hG
  have hW5 := mOK_W5 hG
  have hR0 := mOK_R0 hG
  have hR6 := mOK_R6 hG
  have hn4 := mOK_n4 hG
  have hc6 := mOK_c6 hG
  refine lv_iload_n hx hb dX7_told_0 rfl (lv_at hl 1 rfl) ?_
  refine lv_if_lt (tgt := 10) hx hb dX7_told_1 (by decide) (fun c_1 => ?_) (fun c_1 => ?_)
  · refine lv_aload_n hx hb dX7_told_10 rfl (lv_at hl 0 rfl) ?_
    refine lv_iconst (v := 1) hx hb dX7_told_11 (by decide) ?_
    refine zr_muV (F := ()) (ff := fun _ => True) (rr := fun _ => some (.int (-1))) (w1 := fun _ => (mW G ad 1 m_top m_bottom m_taped m_size m_token m_from m_end m_value m_faultKind m_faultPlace m_faults m_seen m_depth m_counted m_lead m_round m_tried m_triedMany m_drawn m_ranSteps m_isTold m_marks m_at m_names m_sort m_trayMany m_trays m_tape m_text m_opened m_beside m_then m_ways m_further m_canBe m_loops m_ran m_told0)) ⟨hx, hb, hml, hown, hts⟩ (mt_mf_refuse l G ad m_status m_top m_bottom m_taped m_size m_token m_from m_end m_value m_faultKind m_faultPlace m_faults m_seen m_depth m_counted m_lead m_round m_tried m_triedMany m_drawn m_ranSteps m_isTold m_marks m_at m_names m_sort m_trayMany m_trays m_tape m_text m_opened m_beside m_then m_ways m_further m_canBe m_loops m_ran m_told0 1 H.size) (cwV 1 hts (lw_V q1666 q1668 qs66 q144 q1669) rfl rfl rfl hd_X7_refuse ⟨(Nat.le_of_ble_eq_true rfl), (Nat.le_of_ble_eq_true rfl)⟩) hP hD hS hA hK hE 0 7 rfl rfl rfl hl.1 rfl (Nat.le_of_ble_eq_true rfl) dX7_told_12 ⟨Nat.le_refl _, Nat.le_refl _⟩ (fun _ _ _ H locs hP hD hS _ => ?_)
    refine W.eq (g2 := F0 m 15 ls [.int (-1)]) rfl ?_
    have e_ : mf_told m_at what = ((-1), 1) := by rw [mf_told, if_pos c_1]
    exact zr_mi hx hb hr hlocks hP hD hS dX7_told_15 (by rw [e_])  (by rw [e_]) trivial
  · have hw0 := c_1
    refine lv_iload_n hx hb dX7_told_4 rfl (lv_at hl 1 rfl) ?_
    refine lv_bipush (v := 10) hx hb dX7_told_5 (by decide) ?_
    refine lv_icmp_le (tgt := 16) hx hb dX7_told_7 (by decide) (fun c_3 => ?_) (fun c_3 => ?_)
    · have hw1 := z_le 10 (by decide) hw0 c_3
      refine lv_iload_n hx hb dX7_told_16 rfl (lv_at hl 1 rfl) ?_
      refine lv_bipush (v := 10) hx hb dX7_told_17 (by decide) ?_
      refine lv_icmp_ne (tgt := 34) hx hb dX7_told_19 (by decide) (fun c_4 => ?_) (fun c_4 => ?_)
      · refine lv_aload_n hx hb dX7_told_34 rfl (lv_at hl 0 rfl) ?_
        refine lv_iload_n hx hb dX7_told_35 rfl (lv_at hl 1 rfl) ?_
        refine lv_iconst (v := 2) hx hb dX7_told_36 (by decide) ?_
        refine lv_icmp_lt (tgt := 57) hx hb dX7_told_37 (by decide) (fun c_5 => ?_) (fun c_5 => ?_)
        · refine lv_aload_n hx hb dX7_told_57 rfl (lv_at hl 0 rfl) ?_
          refine va_get (D := G.1) (ci := 7) (v := .ref (ad 1)) (C := RX7) (T := TX7) (N := 39) hx hb hts in_X7 hown hK.1 hP 0 rfl rfl 0 (Nat.le_of_ble_eq_true rfl) (hts _ q1467) (fun _ h => h) rfl dX7_told_58 ?_
          refine lv_iload_n hx hb dX7_told_61 rfl (lv_at hl 1 rfl) ?_
          refine zr_iald what.toNatClampNeg (v := m_at what.toNatClampNeg) hx hb hK hP 1 rfl rfl (Nat.le_of_ble_eq_true rfl) (z_nn hw0) (by omega) rfl dX7_told_62 ?_
          refine zr_muV (F := ()) (ff := fun _ => True) (rr := fun _ => some (.int (m_at what.toNatClampNeg))) (w1 := fun _ => (mW G ad 0 m_top m_bottom m_taped m_size m_token m_from m_end m_value m_faultKind m_faultPlace m_faults m_seen m_depth m_counted m_lead m_round m_tried m_triedMany m_drawn m_ranSteps m_isTold m_marks m_at m_names m_sort m_trayMany m_trays m_tape m_text m_opened m_beside m_then m_ways m_further m_canBe m_loops m_ran m_told0)) ⟨hx, hb, hml, hown, hts⟩ (mt_mf_gives l G ad m_status m_top m_bottom m_taped m_size m_token m_from m_end m_value m_faultKind m_faultPlace m_faults m_seen m_depth m_counted m_lead m_round m_tried m_triedMany m_drawn m_ranSteps m_isTold m_marks m_at m_names m_sort m_trayMany m_trays m_tape m_text m_opened m_beside m_then m_ways m_further m_canBe m_loops m_ran m_told0 (m_at what.toNatClampNeg) H.size) (cwV 1 hts (lw_V q1751 q1753 qs85 q144 q1754) rfl rfl rfl hd_X7_gives ⟨(Nat.le_of_ble_eq_true rfl), (Nat.le_of_ble_eq_true rfl)⟩) hP hD hS hA hK hE 0 7 rfl rfl rfl hl.1 rfl (Nat.le_of_ble_eq_true rfl) dX7_told_63 ⟨Nat.le_refl _, Nat.le_refl _⟩ (fun _ _ _ H locs hP hD hS _ => ?_)
          refine W.eq (g2 := F0 m 66 ls [.int (m_at what.toNatClampNeg)]) rfl ?_
          have e_ : mf_told m_at what = (m_at what.toNatClampNeg, 0) := by rw [mf_told, if_neg c_1, if_pos c_3, if_neg c_4, if_pos c_5]
          exact zr_mi hx hb hr hlocks hP hD hS dX7_told_66 (by rw [e_])  (by rw [e_]) trivial
        · refine lv_iload_n hx hb dX7_told_40 rfl (lv_at hl 1 rfl) ?_
          refine lv_iconst (v := 4) hx hb dX7_told_41 (by decide) ?_
          refine lv_icmp_gt (tgt := 57) hx hb dX7_told_42 (by decide) (fun c_7 => ?_) (fun c_7 => ?_)
          · refine lv_aload_n hx hb dX7_told_57 rfl (lv_at hl 0 rfl) ?_
            refine va_get (D := G.1) (ci := 7) (v := .ref (ad 1)) (C := RX7) (T := TX7) (N := 39) hx hb hts in_X7 hown hK.1 hP 0 rfl rfl 0 (Nat.le_of_ble_eq_true rfl) (hts _ q1467) (fun _ h => h) rfl dX7_told_58 ?_
            refine lv_iload_n hx hb dX7_told_61 rfl (lv_at hl 1 rfl) ?_
            refine zr_iald what.toNatClampNeg (v := m_at what.toNatClampNeg) hx hb hK hP 1 rfl rfl (Nat.le_of_ble_eq_true rfl) (z_nn hw0) (by omega) rfl dX7_told_62 ?_
            refine zr_muV (F := ()) (ff := fun _ => True) (rr := fun _ => some (.int (m_at what.toNatClampNeg))) (w1 := fun _ => (mW G ad 0 m_top m_bottom m_taped m_size m_token m_from m_end m_value m_faultKind m_faultPlace m_faults m_seen m_depth m_counted m_lead m_round m_tried m_triedMany m_drawn m_ranSteps m_isTold m_marks m_at m_names m_sort m_trayMany m_trays m_tape m_text m_opened m_beside m_then m_ways m_further m_canBe m_loops m_ran m_told0)) ⟨hx, hb, hml, hown, hts⟩ (mt_mf_gives l G ad m_status m_top m_bottom m_taped m_size m_token m_from m_end m_value m_faultKind m_faultPlace m_faults m_seen m_depth m_counted m_lead m_round m_tried m_triedMany m_drawn m_ranSteps m_isTold m_marks m_at m_names m_sort m_trayMany m_trays m_tape m_text m_opened m_beside m_then m_ways m_further m_canBe m_loops m_ran m_told0 (m_at what.toNatClampNeg) H.size) (cwV 1 hts (lw_V q1751 q1753 qs85 q144 q1754) rfl rfl rfl hd_X7_gives ⟨(Nat.le_of_ble_eq_true rfl), (Nat.le_of_ble_eq_true rfl)⟩) hP hD hS hA hK hE 0 7 rfl rfl rfl hl.1 rfl (Nat.le_of_ble_eq_true rfl) dX7_told_63 ⟨Nat.le_refl _, Nat.le_refl _⟩ (fun _ _ _ H locs hP hD hS _ => ?_)
            refine W.eq (g2 := F0 m 66 ls [.int (m_at what.toNatClampNeg)]) rfl ?_
            have e_ : mf_told m_at what = (m_at what.toNatClampNeg, 0) := by rw [mf_told, if_neg c_1, if_pos c_3, if_neg c_4, if_neg c_5, if_pos c_7]
            exact zr_mi hx hb hr hlocks hP hD hS dX7_told_66 (by rw [e_])  (by rw [e_]) trivial
          · refine lv_aload_n hx hb dX7_told_45 rfl (lv_at hl 0 rfl) ?_
            refine va_get (D := G.1) (ci := 7) (v := .ref (ad 1)) (C := RX7) (T := TX7) (N := 39) hx hb hts in_X7 hown hK.1 hP 0 rfl rfl 0 (Nat.le_of_ble_eq_true rfl) (hts _ q1467) (fun _ h => h) rfl dX7_told_46 ?_
            refine lv_iload_n hx hb dX7_told_49 rfl (lv_at hl 1 rfl) ?_
            refine zr_iald what.toNatClampNeg (v := m_at what.toNatClampNeg) hx hb hK hP 1 rfl rfl (Nat.le_of_ble_eq_true rfl) (z_nn hw0) (by omega) rfl dX7_told_50 ?_
            refine zr_puS ⟨hx, hb, hml, hown, hts⟩ (mt_bitsN l (m_at what.toNatClampNeg)) (va_cwS 1 hts (lw_S q1744 q1745 q144 q1746) rfl rfl rfl hd_X7_bits.2 ⟨(Nat.le_of_ble_eq_true rfl), (Nat.le_of_ble_eq_true rfl)⟩) rfl hl.1 rfl (Nat.le_of_ble_eq_true rfl) dX7_told_51 ⟨Nat.le_refl _, Nat.le_refl _⟩ ?_
            refine lv_goto (tgt := 63) hx hb dX7_told_54 (by decide) ?_
            refine zr_muV (F := ()) (ff := fun _ => True) (rr := fun _ => some (.int (nI (zpc (m_at what.toNatClampNeg))))) (w1 := fun _ => (mW G ad 0 m_top m_bottom m_taped m_size m_token m_from m_end m_value m_faultKind m_faultPlace m_faults m_seen m_depth m_counted m_lead m_round m_tried m_triedMany m_drawn m_ranSteps m_isTold m_marks m_at m_names m_sort m_trayMany m_trays m_tape m_text m_opened m_beside m_then m_ways m_further m_canBe m_loops m_ran m_told0)) ⟨hx, hb, hml, hown, hts⟩ (mt_mf_gives l G ad m_status m_top m_bottom m_taped m_size m_token m_from m_end m_value m_faultKind m_faultPlace m_faults m_seen m_depth m_counted m_lead m_round m_tried m_triedMany m_drawn m_ranSteps m_isTold m_marks m_at m_names m_sort m_trayMany m_trays m_tape m_text m_opened m_beside m_then m_ways m_further m_canBe m_loops m_ran m_told0 (nI (zpc (m_at what.toNatClampNeg))) H.size) (cwV 1 hts (lw_V q1751 q1753 qs85 q144 q1754) rfl rfl rfl hd_X7_gives ⟨(Nat.le_of_ble_eq_true rfl), (Nat.le_of_ble_eq_true rfl)⟩) hP hD hS hA hK hE 0 7 rfl rfl rfl hl.1 rfl (Nat.le_of_ble_eq_true rfl) dX7_told_63 ⟨Nat.le_refl _, Nat.le_refl _⟩ (fun _ _ _ H locs hP hD hS _ => ?_)
            refine W.eq (g2 := F0 m 66 ls [.int (nI (zpc (m_at what.toNatClampNeg)))]) rfl ?_
            have e_ : mf_told m_at what = (nI (zpc (m_at what.toNatClampNeg)), 0) := by rw [mf_told, if_neg c_1, if_pos c_3, if_neg c_4, if_neg c_5, if_neg c_7]
            exact zr_mi hx hb hr hlocks hP hD hS dX7_told_66 (by rw [e_])  (by rw [e_]) trivial
      · refine lv_aload_n hx hb dX7_told_22 rfl (lv_at hl 0 rfl) ?_
        refine lv_aload_n hx hb dX7_told_23 rfl (lv_at hl 0 rfl) ?_
        refine va_get (D := G.1) (ci := 7) (v := .ref (ad 1)) (C := RX7) (T := TX7) (N := 39) hx hb hts in_X7 hown hK.1 hP 0 rfl rfl 0 (Nat.le_of_ble_eq_true rfl) (hts _ q1467) (fun _ h => h) rfl dX7_told_24 ?_
        refine lv_bipush (v := 10) hx hb dX7_told_27 (by decide) ?_
        refine zr_iald 10 (v := m_at 10) hx hb hK hP 1 rfl rfl (Nat.le_of_ble_eq_true rfl) rfl (by decide) rfl dX7_told_29 ?_
        refine zr_muV (F := mf_orNone (m_at 10)) (ff := fun t_10 => True) (rr := fun t_10 => some (.int t_10.1)) (w1 := fun t_10 => (mW G ad t_10.2 m_top m_bottom m_taped m_size m_token m_from m_end m_value m_faultKind m_faultPlace m_faults m_seen m_depth m_counted m_lead m_round m_tried m_triedMany m_drawn m_ranSteps m_isTold m_marks m_at m_names m_sort m_trayMany m_trays m_tape m_text m_opened m_beside m_then m_ways m_further m_canBe m_loops m_ran m_told0)) ⟨hx, hb, hml, hown, hts⟩ (mt_mf_orNone l G ad m_status m_top m_bottom m_taped m_size m_token m_from m_end m_value m_faultKind m_faultPlace m_faults m_seen m_depth m_counted m_lead m_round m_tried m_triedMany m_drawn m_ranSteps m_isTold m_marks m_at m_names m_sort m_trayMany m_trays m_tape m_text m_opened m_beside m_then m_ways m_further m_canBe m_loops m_ran m_told0 (m_at 10) H.size) (cwV 1 hts (lw_V q1783 q1785 qs91 q144 q1786) rfl rfl rfl hd_X7_orNone ⟨(Nat.le_of_ble_eq_true rfl), (Nat.le_of_ble_eq_true rfl)⟩) hP hD hS hA hK hE 0 7 rfl rfl rfl hl.1 rfl (Nat.le_of_ble_eq_true rfl) dX7_told_30 ⟨Nat.le_refl _, Nat.le_refl _⟩ (fun t_10 ht_10 hft_10 H locs hP hD hS _ => ?_)
        refine W.eq (g2 := F0 m 33 ls [.int t_10.1]) rfl ?_
        have e_ : mf_told m_at what = (t_10.1, t_10.2) := by rw [mf_told, if_neg c_1, if_pos c_3, if_pos c_4, zlet_eq ht_10]
        exact zr_mi hx hb hr hlocks hP hD hS dX7_told_33 (by rw [e_])  (by rw [e_]) trivial
    · refine lv_aload_n hx hb dX7_told_10 rfl (lv_at hl 0 rfl) ?_
      refine lv_iconst (v := 1) hx hb dX7_told_11 (by decide) ?_
      refine zr_muV (F := ()) (ff := fun _ => True) (rr := fun _ => some (.int (-1))) (w1 := fun _ => (mW G ad 1 m_top m_bottom m_taped m_size m_token m_from m_end m_value m_faultKind m_faultPlace m_faults m_seen m_depth m_counted m_lead m_round m_tried m_triedMany m_drawn m_ranSteps m_isTold m_marks m_at m_names m_sort m_trayMany m_trays m_tape m_text m_opened m_beside m_then m_ways m_further m_canBe m_loops m_ran m_told0)) ⟨hx, hb, hml, hown, hts⟩ (mt_mf_refuse l G ad m_status m_top m_bottom m_taped m_size m_token m_from m_end m_value m_faultKind m_faultPlace m_faults m_seen m_depth m_counted m_lead m_round m_tried m_triedMany m_drawn m_ranSteps m_isTold m_marks m_at m_names m_sort m_trayMany m_trays m_tape m_text m_opened m_beside m_then m_ways m_further m_canBe m_loops m_ran m_told0 1 H.size) (cwV 1 hts (lw_V q1666 q1668 qs66 q144 q1669) rfl rfl rfl hd_X7_refuse ⟨(Nat.le_of_ble_eq_true rfl), (Nat.le_of_ble_eq_true rfl)⟩) hP hD hS hA hK hE 0 7 rfl rfl rfl hl.1 rfl (Nat.le_of_ble_eq_true rfl) dX7_told_12 ⟨Nat.le_refl _, Nat.le_refl _⟩ (fun _ _ _ H locs hP hD hS _ => ?_)
      refine W.eq (g2 := F0 m 15 ls [.int (-1)]) rfl ?_
      have e_ : mf_told m_at what = ((-1), 1) := by rw [mf_told, if_neg c_1, if_neg c_3]
      exact zr_mi hx hb hr hlocks hP hD hS dX7_told_15 (by rw [e_])  (by rw [e_]) trivial
def mf_lamp (m_at : Nat → Int32) (Wd : Nat) (R : Nat) (x : Int32) (y : Int32) (what : Int32) : Int32 × Int32 :=
  (if what < 0 then
    ((-1), 1)
  else
    (if what ≤ 3 then
      (if (mf_wrongHouse m_at Wd R x y) ≤ 0 then
        (if what = 0 then
          (if ((m_at 3) &&& (mf_bitOf Wd x y)) = 0 then
            (0, 0)
          else
            (1, 0))
        else
          (if what = 1 then
            (nI (zpc (mf_near m_at Wd R (Wd * y.toNatClampNeg + x.toNatClampNeg))), 0)
          else
            (if what = 2 then
              (nI (zpc ((mf_near m_at Wd R (Wd * y.toNatClampNeg + x.toNatClampNeg)) &&& (m_at 3))), 0)
            else
              (if ((m_at 4) &&& (mf_bitOf Wd x y)) = 0 then
                (0, 0)
              else
                (1, 0)))))
      else
        ((-1), mf_wrongHouse m_at Wd R x y))
    else
      ((-1), 1)))
theorem hd_X7_lamp : yX7_lamp.cls = RX7 ∧ yX7_lamp.cls ≠ "java/lang/invoke/MethodHandle" ∧ yX7_lamp.cls ≠ "java/lang/invoke/VarHandle" ∧ (parseMethodDescriptor yX7_lamp.desc).map (fun d => d.parameters.length) = some 3 := by decide +kernel
set_option maxHeartbeats 4000000 in
set_option maxRecDepth 100000 in
theorem mt_mf_lamp (l : Launch) (G : zG) (ad : Nat → Nat) (m_status : Int32) (m_top : Int64) (m_bottom : Int64) (m_taped : Int32) (m_size : Int32) (m_token : Int32) (m_from : Int32) (m_end : Int32) (m_value : Int32) (m_faultKind : Int32) (m_faultPlace : Int32) (m_faults : Int32) (m_seen : Int32) (m_depth : Int32) (m_counted : Int32) (m_lead : Int32) (m_round : Int32) (m_tried : Int32) (m_triedMany : Int32) (m_drawn : Int32) (m_ranSteps : Int32) (m_isTold : Bool) (m_marks : Int32) (m_at : Nat → Int32) (m_names : Nat → Int64) (m_sort : Nat → Int32) (m_trayMany : Nat → Int32) (m_trays : Nat → Int64) (m_tape : Nat → Int32) (m_text : Nat → Int32) (m_opened : Nat → Int32) (m_beside : Nat → Int32) (m_then : Nat → Int32) (m_ways : Nat → Int64) (m_further : Nat → Int64) (m_canBe : Nat → Int32) (m_loops : Nat → Int32) (m_ran : Nat → Int32) (m_told0 : Nat → Int32) (Wd : Nat) (R : Nat) (nr : Nat) (nc : Nat) (x : Int32) (y : Int32) (what : Int32) (hG : mOK m_at Wd R nr nc) (sz : Nat) : Met l yX7_lamp (ws_ yX7_lamp cX7_lamp 7 (some .int)) (zR 3 0 0) (zPm G sz [.ref (ad 0), .int x, .int y, .int what] (mW G ad m_status m_top m_bottom m_taped m_size m_token m_from m_end m_value m_faultKind m_faultPlace m_faults m_seen m_depth m_counted m_lead m_round m_tried m_triedMany m_drawn m_ranSteps m_isTold m_marks m_at m_names m_sort m_trayMany m_trays m_tape m_text m_opened m_beside m_then m_ways m_further m_canBe m_loops m_ran m_told0)) (zQm G (True) (some (.int ((mf_lamp m_at Wd R x y what).1))) (mW G ad ((mf_lamp m_at Wd R x y what).2) m_top m_bottom m_taped m_size m_token m_from m_end m_value m_faultKind m_faultPlace m_faults m_seen m_depth m_counted m_lead m_round m_tried m_triedMany m_drawn m_ranSteps m_isTold m_marks m_at m_names m_sort m_trayMany m_trays m_tape m_text m_opened m_beside m_then m_ways m_further m_canBe m_loops m_ran m_told0) (va_A (mW G ad m_status m_top m_bottom m_taped m_size m_token m_from m_end m_value m_faultKind m_faultPlace m_faults m_seen m_depth m_counted m_lead m_round m_tried m_triedMany m_drawn m_ranSteps m_isTold m_marks m_at m_names m_sort m_trayMany m_trays m_tape m_text m_opened m_beside m_then m_ways m_further m_canBe m_loops m_ran m_told0) sz)) 0 0 (va_A (mW G ad m_status m_top m_bottom m_taped m_size m_token m_from m_end m_value m_faultKind m_faultPlace m_faults m_seen m_depth m_counted m_lead m_round m_tried m_triedMany m_drawn m_ranSteps m_isTold m_marks m_at m_names m_sort m_trayMany m_trays m_tape m_text m_opened m_beside m_then m_ways m_further m_canBe m_loops m_ran m_told0) sz) := by
  refine zr_entM (by decide) (Nat.le_of_ble_eq_true rfl) ?_
  intro p e s m below meth c ⟨hx, hb, hr, hml, hown, hts, hlocks, hnm⟩ ls hl hP hK A hE hA hD hS
  have hown : s.vm.findClass RX7 = some m.cls := hown
  have hl : lv_has ls 7 [(0, .ref (ad 0)), (1, .int x), (2, .int y), (3, .int what)] := hl
  obtain ⟨H, hH⟩ : ∃ H, H = s.heap := ⟨_, rfl⟩
  obtain ⟨locs, hlo⟩ : ∃ L : List Loc, L = [] := ⟨_, rfl⟩
  rw [← hH] at hP
  have hS : va_S A s.heap H locs := by rw [hH, hlo]; exact va_S.rf
  have hgo : W p l e (zR 3 0 0) s m ([.ref (ad 0), .int x, .int y, .int what] : List Value).toArray below meth c H locs 0 0 (MQ below (zQm G (True) (some (.int ((mf_lamp m_at Wd R x y what).1))) (mW G ad ((mf_lamp m_at Wd R x y what).2) m_top m_bottom m_taped m_size m_token m_from m_end m_value m_faultKind m_faultPlace m_faults m_seen m_depth m_counted m_lead m_round m_tried m_triedMany m_drawn m_ranSteps m_isTold m_marks m_at m_names m_sort m_trayMany m_trays m_tape m_text m_opened m_beside m_then m_ways m_further m_canBe m_loops m_ran m_told0) A) ([.ref (ad 0), .int x, .int y, .int what] : List Value).toArray s 0 0 A) (F0 m 0 ls []) := ?_
  · rw [hH, hlo] at hgo; exact hgo
  clear hH hlo
  have hWR := mOK_WR hG
  have hW0 := mOK_W0 hG
  have hW5 := mOK_W5 hG
  have hR0 := mOK_R0 hG
  have hR6 := mOK_R6 hG
  have hn4 := mOK_n4 hG
  have hc6 := mOK_c6 hG
  refine lv_iload_n hx hb dX7_lamp_0 rfl (lv_at hl 3 rfl) ?_
  refine lv_if_lt (tgt := 9) hx hb dX7_lamp_1 (by decide) (fun c_1 => ?_) (fun c_1 => ?_)
  · refine lv_iconst (v := 1) hx hb dX7_lamp_9 (by decide) ?_
    refine lv_goto (tgt := 19) hx hb dX7_lamp_10 (by decide) ?_
    refine lv_istore (lv' := [(4, .int 1), (0, .ref (ad 0)), (1, .int x), (2, .int y), (3, .int what)]) hx hb dX7_lamp_19 hl (by decide) rfl (fun ls hl => ?_)
    refine lv_iload hx hb dX7_lamp_21 (lv_at hl 0 rfl) ?_
    refine lv_if_le (tgt := 33) hx hb dX7_lamp_23 (by decide) (fun z => absurd z (by decide)) (fun _ => ?_)
    refine lv_aload_n hx hb dX7_lamp_26 rfl (lv_at hl 1 rfl) ?_
    refine lv_iload hx hb dX7_lamp_27 (lv_at hl 0 rfl) ?_
    refine zr_muV (F := ()) (ff := fun _ => True) (rr := fun _ => some (.int (-1))) (w1 := fun _ => (mW G ad 1 m_top m_bottom m_taped m_size m_token m_from m_end m_value m_faultKind m_faultPlace m_faults m_seen m_depth m_counted m_lead m_round m_tried m_triedMany m_drawn m_ranSteps m_isTold m_marks m_at m_names m_sort m_trayMany m_trays m_tape m_text m_opened m_beside m_then m_ways m_further m_canBe m_loops m_ran m_told0)) ⟨hx, hb, hml, hown, hts⟩ (mt_mf_refuse l G ad m_status m_top m_bottom m_taped m_size m_token m_from m_end m_value m_faultKind m_faultPlace m_faults m_seen m_depth m_counted m_lead m_round m_tried m_triedMany m_drawn m_ranSteps m_isTold m_marks m_at m_names m_sort m_trayMany m_trays m_tape m_text m_opened m_beside m_then m_ways m_further m_canBe m_loops m_ran m_told0 1 H.size) (cwV 1 hts (lw_V q1666 q1668 qs66 q144 q1669) rfl rfl rfl hd_X7_refuse ⟨(Nat.le_of_ble_eq_true rfl), (Nat.le_of_ble_eq_true rfl)⟩) hP hD hS hA hK hE 0 7 rfl rfl rfl hl.1 rfl (Nat.le_of_ble_eq_true rfl) dX7_lamp_29 ⟨Nat.le_refl _, Nat.le_refl _⟩ (fun _ _ _ H locs hP hD hS _ => ?_)
    refine W.eq (g2 := F0 m 32 ls [.int (-1)]) rfl ?_
    have e_ : mf_lamp m_at Wd R x y what = ((-1), 1) := by rw [mf_lamp, if_pos c_1]
    exact zr_mi hx hb hr hlocks hP hD hS dX7_lamp_32 (by rw [e_])  (by rw [e_]) trivial
  · refine lv_iload_n hx hb dX7_lamp_4 rfl (lv_at hl 3 rfl) ?_
    refine lv_iconst (v := 3) hx hb dX7_lamp_5 (by decide) ?_
    refine lv_icmp_le (tgt := 13) hx hb dX7_lamp_6 (by decide) (fun c_3 => ?_) (fun c_3 => ?_)
    · refine lv_aload_n hx hb dX7_lamp_13 rfl (lv_at hl 0 rfl) ?_
      refine lv_iload_n hx hb dX7_lamp_14 rfl (lv_at hl 1 rfl) ?_
      refine lv_iload_n hx hb dX7_lamp_15 rfl (lv_at hl 2 rfl) ?_
      refine zr_obV ⟨hx, hb, hml, hown, hts⟩ (mt_mf_wrongHouse l G ad m_status m_top m_bottom m_taped m_size m_token m_from m_end m_value m_faultKind m_faultPlace m_faults m_seen m_depth m_counted m_lead m_round m_tried m_triedMany m_drawn m_ranSteps m_isTold m_marks m_at m_names m_sort m_trayMany m_trays m_tape m_text m_opened m_beside m_then m_ways m_further m_canBe m_loops m_ran m_told0 Wd R nr nc x y hG) (cwV 2 hts (lw_V q1799 q1801 qs93 q144 q1802) rfl rfl rfl hd_X7_wrongHouse ⟨(Nat.le_of_ble_eq_true rfl), (Nat.le_of_ble_eq_true rfl)⟩) hP hK (zE_o hE hS) 0 7 rfl rfl rfl hl.1 rfl (Nat.le_of_ble_eq_true rfl) dX7_lamp_16 ⟨Nat.le_refl _, Nat.le_refl _⟩ ?_
      refine lv_istore (lv' := [(4, .int (mf_wrongHouse m_at Wd R x y)), (0, .ref (ad 0)), (1, .int x), (2, .int y), (3, .int what)]) hx hb dX7_lamp_19 hl (by decide) rfl (fun ls hl => ?_)
      refine lv_iload hx hb dX7_lamp_21 (lv_at hl 0 rfl) ?_
      refine lv_if_le (tgt := 33) hx hb dX7_lamp_23 (by decide) (fun c_4 => ?_) (fun c_4 => ?_)
      · obtain ⟨⟨hx0, hx1⟩, hy0, hy1⟩ := isPlace_t (by omega) (by omega) (wrongHouse_0 c_4)
        have hcell := z_cell hWR hx1 hy1
        refine lv_aload_n hx hb dX7_lamp_33 rfl (lv_at hl 1 rfl) ?_
        refine lv_aload_n hx hb dX7_lamp_34 rfl (lv_at hl 1 rfl) ?_
        refine va_get (D := G.1) (ci := 7) (v := .ref (ad 1)) (C := RX7) (T := TX7) (N := 39) hx hb hts in_X7 hown hK.1 hP 0 rfl rfl 0 (Nat.le_of_ble_eq_true rfl) (hts _ q1467) (fun _ h => h) rfl dX7_lamp_35 ?_
        refine lv_iconst (v := 0) hx hb dX7_lamp_38 (by decide) ?_
        refine zr_iald 0 (v := nI Wd) hx hb hK hP 1 rfl rfl (Nat.le_of_ble_eq_true rfl) rfl (by decide) (mOK_w hG) dX7_lamp_39 ?_
        refine lv_iload_n hx hb dX7_lamp_40 rfl (lv_at hl 3 rfl) ?_
        refine zr_val (congrArg Value.int (z_nn hy0)) ?_
        refine W.eq (g2 := F0 m 41 ls [.int (nI y.toNatClampNeg), .int (nI Wd), .ref (ad 0)]) rfl ?_
        refine zr_imulN Wd y.toNatClampNeg hx hb dX7_lamp_41 ?_
        refine lv_iload_n hx hb dX7_lamp_42 rfl (lv_at hl 2 rfl) ?_
        refine zr_val (congrArg Value.int (z_nn hx0)) ?_
        refine W.eq (g2 := F0 m 43 ls [.int (nI x.toNatClampNeg), .int (nI (Wd * y.toNatClampNeg)), .ref (ad 0)]) rfl ?_
        refine zr_iaddN (Wd * y.toNatClampNeg) x.toNatClampNeg hx hb dX7_lamp_43 ?_
        refine zr_val (v' := .int (nI (Wd * y.toNatClampNeg + x.toNatClampNeg))) (by rfl) ?_
        refine zr_obV ⟨hx, hb, hml, hown, hts⟩ (mt_mf_near l G ad m_status m_top m_bottom m_taped m_size m_token m_from m_end m_value m_faultKind m_faultPlace m_faults m_seen m_depth m_counted m_lead m_round m_tried m_triedMany m_drawn m_ranSteps m_isTold m_marks m_at m_names m_sort m_trayMany m_trays m_tape m_text m_opened m_beside m_then m_ways m_further m_canBe m_loops m_ran m_told0 Wd R nr nc (Wd * y.toNatClampNeg + x.toNatClampNeg) hG (by omega)) (cwV 1 hts (lw_V q1811 q1813 qs96 q144 q1814) rfl rfl rfl hd_X7_near ⟨(Nat.le_of_ble_eq_true rfl), (Nat.le_of_ble_eq_true rfl)⟩) hP hK (zE_o hE hS) 0 7 rfl rfl rfl hl.1 rfl (Nat.le_of_ble_eq_true rfl) dX7_lamp_44 ⟨Nat.le_refl _, Nat.le_refl _⟩ ?_
        refine lv_istore (lv' := [(5, .int (mf_near m_at Wd R (Wd * y.toNatClampNeg + x.toNatClampNeg))), (4, .int (mf_wrongHouse m_at Wd R x y)), (0, .ref (ad 0)), (1, .int x), (2, .int y), (3, .int what)]) hx hb dX7_lamp_47 hl (by decide) rfl (fun ls hl => ?_)
        refine lv_aload_n hx hb dX7_lamp_49 rfl (lv_at hl 2 rfl) ?_
        refine lv_iload_n hx hb dX7_lamp_50 rfl (lv_at hl 3 rfl) ?_
        refine lv_iload_n hx hb dX7_lamp_51 rfl (lv_at hl 4 rfl) ?_
        refine zr_obV ⟨hx, hb, hml, hown, hts⟩ (mt_mf_bitOf l G ad m_status m_top m_bottom m_taped m_size m_token m_from m_end m_value m_faultKind m_faultPlace m_faults m_seen m_depth m_counted m_lead m_round m_tried m_triedMany m_drawn m_ranSteps m_isTold m_marks m_at m_names m_sort m_trayMany m_trays m_tape m_text m_opened m_beside m_then m_ways m_further m_canBe m_loops m_ran m_told0 Wd R nr nc x y hG) (cwV 2 hts (lw_V q1807 q1809 qs95 q144 q1810) rfl rfl rfl hd_X7_bitOf ⟨(Nat.le_of_ble_eq_true rfl), (Nat.le_of_ble_eq_true rfl)⟩) hP hK (zE_o hE hS) 0 7 rfl rfl rfl hl.1 rfl (Nat.le_of_ble_eq_true rfl) dX7_lamp_52 ⟨Nat.le_refl _, Nat.le_refl _⟩ ?_
        refine lv_istore (lv' := [(6, .int (mf_bitOf Wd x y)), (5, .int (mf_near m_at Wd R (Wd * y.toNatClampNeg + x.toNatClampNeg))), (4, .int (mf_wrongHouse m_at Wd R x y)), (0, .ref (ad 0)), (1, .int x), (2, .int y), (3, .int what)]) hx hb dX7_lamp_55 hl (by decide) rfl (fun ls hl => ?_)
        refine lv_aload_n hx hb dX7_lamp_57 rfl (lv_at hl 3 rfl) ?_
        refine lv_iload_n hx hb dX7_lamp_58 rfl (lv_at hl 6 rfl) ?_
        refine lv_if_ne (tgt := 82) hx hb dX7_lamp_59 (by decide) (fun c_5 => ?_) (fun c_5 => ?_)
        · refine lv_iload_n hx hb dX7_lamp_82 rfl (lv_at hl 6 rfl) ?_
          refine lv_iconst (v := 1) hx hb dX7_lamp_83 (by decide) ?_
          refine lv_icmp_ne (tgt := 95) hx hb dX7_lamp_84 (by decide) (fun c_6 => ?_) (fun c_6 => ?_)
          · refine lv_iload_n hx hb dX7_lamp_95 rfl (lv_at hl 6 rfl) ?_
            refine lv_iconst (v := 2) hx hb dX7_lamp_96 (by decide) ?_
            refine lv_icmp_ne (tgt := 115) hx hb dX7_lamp_97 (by decide) (fun c_7 => ?_) (fun c_7 => ?_)
            · refine lv_aload_n hx hb dX7_lamp_115 rfl (lv_at hl 3 rfl) ?_
              refine va_get (D := G.1) (ci := 7) (v := .ref (ad 1)) (C := RX7) (T := TX7) (N := 39) hx hb hts in_X7 hown hK.1 hP 0 rfl rfl 0 (Nat.le_of_ble_eq_true rfl) (hts _ q1467) (fun _ h => h) rfl dX7_lamp_116 ?_
              refine lv_iconst (v := 4) hx hb dX7_lamp_119 (by decide) ?_
              refine zr_iald 4 (v := m_at 4) hx hb hK hP 1 rfl rfl (Nat.le_of_ble_eq_true rfl) rfl (by decide) rfl dX7_lamp_120 ?_
              refine lv_iload hx hb dX7_lamp_121 (lv_at hl 0 rfl) ?_
              refine lv_iand hx hb dX7_lamp_123 ?_
              refine lv_if_ne (tgt := 131) hx hb dX7_lamp_124 (by decide) (fun c_8 => ?_) (fun c_8 => ?_)
              · refine lv_iconst (v := 1) hx hb dX7_lamp_131 (by decide) ?_
                refine zr_muV (F := ()) (ff := fun _ => True) (rr := fun _ => some (.int 1)) (w1 := fun _ => (mW G ad 0 m_top m_bottom m_taped m_size m_token m_from m_end m_value m_faultKind m_faultPlace m_faults m_seen m_depth m_counted m_lead m_round m_tried m_triedMany m_drawn m_ranSteps m_isTold m_marks m_at m_names m_sort m_trayMany m_trays m_tape m_text m_opened m_beside m_then m_ways m_further m_canBe m_loops m_ran m_told0)) ⟨hx, hb, hml, hown, hts⟩ (mt_mf_gives l G ad m_status m_top m_bottom m_taped m_size m_token m_from m_end m_value m_faultKind m_faultPlace m_faults m_seen m_depth m_counted m_lead m_round m_tried m_triedMany m_drawn m_ranSteps m_isTold m_marks m_at m_names m_sort m_trayMany m_trays m_tape m_text m_opened m_beside m_then m_ways m_further m_canBe m_loops m_ran m_told0 1 H.size) (cwV 1 hts (lw_V q1751 q1753 qs85 q144 q1754) rfl rfl rfl hd_X7_gives ⟨(Nat.le_of_ble_eq_true rfl), (Nat.le_of_ble_eq_true rfl)⟩) hP hD hS hA hK hE 0 7 rfl rfl rfl hl.1 rfl (Nat.le_of_ble_eq_true rfl) dX7_lamp_132 ⟨Nat.le_refl _, Nat.le_refl _⟩ (fun _ _ _ H locs hP hD hS _ => ?_)
                refine W.eq (g2 := F0 m 135 ls [.int 1]) rfl ?_
                have e_ : mf_lamp m_at Wd R x y what = (1, 0) := by rw [mf_lamp, if_neg c_1, if_pos c_3, if_pos c_4, if_neg c_5, if_neg c_6, if_neg c_7, if_neg c_8]
                exact zr_mi hx hb hr hlocks hP hD hS dX7_lamp_135 (by rw [e_])  (by rw [e_]) trivial
              · refine lv_iconst (v := 0) hx hb dX7_lamp_127 (by decide) ?_
                refine lv_goto (tgt := 132) hx hb dX7_lamp_128 (by decide) ?_
                refine zr_muV (F := ()) (ff := fun _ => True) (rr := fun _ => some (.int 0)) (w1 := fun _ => (mW G ad 0 m_top m_bottom m_taped m_size m_token m_from m_end m_value m_faultKind m_faultPlace m_faults m_seen m_depth m_counted m_lead m_round m_tried m_triedMany m_drawn m_ranSteps m_isTold m_marks m_at m_names m_sort m_trayMany m_trays m_tape m_text m_opened m_beside m_then m_ways m_further m_canBe m_loops m_ran m_told0)) ⟨hx, hb, hml, hown, hts⟩ (mt_mf_gives l G ad m_status m_top m_bottom m_taped m_size m_token m_from m_end m_value m_faultKind m_faultPlace m_faults m_seen m_depth m_counted m_lead m_round m_tried m_triedMany m_drawn m_ranSteps m_isTold m_marks m_at m_names m_sort m_trayMany m_trays m_tape m_text m_opened m_beside m_then m_ways m_further m_canBe m_loops m_ran m_told0 0 H.size) (cwV 1 hts (lw_V q1751 q1753 qs85 q144 q1754) rfl rfl rfl hd_X7_gives ⟨(Nat.le_of_ble_eq_true rfl), (Nat.le_of_ble_eq_true rfl)⟩) hP hD hS hA hK hE 0 7 rfl rfl rfl hl.1 rfl (Nat.le_of_ble_eq_true rfl) dX7_lamp_132 ⟨Nat.le_refl _, Nat.le_refl _⟩ (fun _ _ _ H locs hP hD hS _ => ?_)
                refine W.eq (g2 := F0 m 135 ls [.int 0]) rfl ?_
                have e_ : mf_lamp m_at Wd R x y what = (0, 0) := by rw [mf_lamp, if_neg c_1, if_pos c_3, if_pos c_4, if_neg c_5, if_neg c_6, if_neg c_7, if_pos c_8]
                exact zr_mi hx hb hr hlocks hP hD hS dX7_lamp_135 (by rw [e_])  (by rw [e_]) trivial
            · refine lv_iload hx hb dX7_lamp_100 (lv_at hl 1 rfl) ?_
              refine lv_aload_n hx hb dX7_lamp_102 rfl (lv_at hl 3 rfl) ?_
              refine va_get (D := G.1) (ci := 7) (v := .ref (ad 1)) (C := RX7) (T := TX7) (N := 39) hx hb hts in_X7 hown hK.1 hP 0 rfl rfl 0 (Nat.le_of_ble_eq_true rfl) (hts _ q1467) (fun _ h => h) rfl dX7_lamp_103 ?_
              refine lv_iconst (v := 3) hx hb dX7_lamp_106 (by decide) ?_
              refine zr_iald 3 (v := m_at 3) hx hb hK hP 1 rfl rfl (Nat.le_of_ble_eq_true rfl) rfl (by decide) rfl dX7_lamp_107 ?_
              refine lv_iand hx hb dX7_lamp_108 ?_
              refine zr_puS ⟨hx, hb, hml, hown, hts⟩ (mt_bitsN l ((mf_near m_at Wd R (Wd * y.toNatClampNeg + x.toNatClampNeg)) &&& (m_at 3))) (va_cwS 1 hts (lw_S q1744 q1745 q144 q1746) rfl rfl rfl hd_X7_bits.2 ⟨(Nat.le_of_ble_eq_true rfl), (Nat.le_of_ble_eq_true rfl)⟩) rfl hl.1 rfl (Nat.le_of_ble_eq_true rfl) dX7_lamp_109 ⟨Nat.le_refl _, Nat.le_refl _⟩ ?_
              refine lv_goto (tgt := 132) hx hb dX7_lamp_112 (by decide) ?_
              refine zr_muV (F := ()) (ff := fun _ => True) (rr := fun _ => some (.int (nI (zpc ((mf_near m_at Wd R (Wd * y.toNatClampNeg + x.toNatClampNeg)) &&& (m_at 3)))))) (w1 := fun _ => (mW G ad 0 m_top m_bottom m_taped m_size m_token m_from m_end m_value m_faultKind m_faultPlace m_faults m_seen m_depth m_counted m_lead m_round m_tried m_triedMany m_drawn m_ranSteps m_isTold m_marks m_at m_names m_sort m_trayMany m_trays m_tape m_text m_opened m_beside m_then m_ways m_further m_canBe m_loops m_ran m_told0)) ⟨hx, hb, hml, hown, hts⟩ (mt_mf_gives l G ad m_status m_top m_bottom m_taped m_size m_token m_from m_end m_value m_faultKind m_faultPlace m_faults m_seen m_depth m_counted m_lead m_round m_tried m_triedMany m_drawn m_ranSteps m_isTold m_marks m_at m_names m_sort m_trayMany m_trays m_tape m_text m_opened m_beside m_then m_ways m_further m_canBe m_loops m_ran m_told0 (nI (zpc ((mf_near m_at Wd R (Wd * y.toNatClampNeg + x.toNatClampNeg)) &&& (m_at 3)))) H.size) (cwV 1 hts (lw_V q1751 q1753 qs85 q144 q1754) rfl rfl rfl hd_X7_gives ⟨(Nat.le_of_ble_eq_true rfl), (Nat.le_of_ble_eq_true rfl)⟩) hP hD hS hA hK hE 0 7 rfl rfl rfl hl.1 rfl (Nat.le_of_ble_eq_true rfl) dX7_lamp_132 ⟨Nat.le_refl _, Nat.le_refl _⟩ (fun _ _ _ H locs hP hD hS _ => ?_)
              refine W.eq (g2 := F0 m 135 ls [.int (nI (zpc ((mf_near m_at Wd R (Wd * y.toNatClampNeg + x.toNatClampNeg)) &&& (m_at 3))))]) rfl ?_
              have e_ : mf_lamp m_at Wd R x y what = (nI (zpc ((mf_near m_at Wd R (Wd * y.toNatClampNeg + x.toNatClampNeg)) &&& (m_at 3))), 0) := by rw [mf_lamp, if_neg c_1, if_pos c_3, if_pos c_4, if_neg c_5, if_neg c_6, if_pos c_7]
              exact zr_mi hx hb hr hlocks hP hD hS dX7_lamp_135 (by rw [e_])  (by rw [e_]) trivial
          · refine lv_iload hx hb dX7_lamp_87 (lv_at hl 1 rfl) ?_
            refine zr_puS ⟨hx, hb, hml, hown, hts⟩ (mt_bitsN l (mf_near m_at Wd R (Wd * y.toNatClampNeg + x.toNatClampNeg))) (va_cwS 1 hts (lw_S q1744 q1745 q144 q1746) rfl rfl rfl hd_X7_bits.2 ⟨(Nat.le_of_ble_eq_true rfl), (Nat.le_of_ble_eq_true rfl)⟩) rfl hl.1 rfl (Nat.le_of_ble_eq_true rfl) dX7_lamp_89 ⟨Nat.le_refl _, Nat.le_refl _⟩ ?_
            refine lv_goto (tgt := 132) hx hb dX7_lamp_92 (by decide) ?_
            refine zr_muV (F := ()) (ff := fun _ => True) (rr := fun _ => some (.int (nI (zpc (mf_near m_at Wd R (Wd * y.toNatClampNeg + x.toNatClampNeg)))))) (w1 := fun _ => (mW G ad 0 m_top m_bottom m_taped m_size m_token m_from m_end m_value m_faultKind m_faultPlace m_faults m_seen m_depth m_counted m_lead m_round m_tried m_triedMany m_drawn m_ranSteps m_isTold m_marks m_at m_names m_sort m_trayMany m_trays m_tape m_text m_opened m_beside m_then m_ways m_further m_canBe m_loops m_ran m_told0)) ⟨hx, hb, hml, hown, hts⟩ (mt_mf_gives l G ad m_status m_top m_bottom m_taped m_size m_token m_from m_end m_value m_faultKind m_faultPlace m_faults m_seen m_depth m_counted m_lead m_round m_tried m_triedMany m_drawn m_ranSteps m_isTold m_marks m_at m_names m_sort m_trayMany m_trays m_tape m_text m_opened m_beside m_then m_ways m_further m_canBe m_loops m_ran m_told0 (nI (zpc (mf_near m_at Wd R (Wd * y.toNatClampNeg + x.toNatClampNeg)))) H.size) (cwV 1 hts (lw_V q1751 q1753 qs85 q144 q1754) rfl rfl rfl hd_X7_gives ⟨(Nat.le_of_ble_eq_true rfl), (Nat.le_of_ble_eq_true rfl)⟩) hP hD hS hA hK hE 0 7 rfl rfl rfl hl.1 rfl (Nat.le_of_ble_eq_true rfl) dX7_lamp_132 ⟨Nat.le_refl _, Nat.le_refl _⟩ (fun _ _ _ H locs hP hD hS _ => ?_)
            refine W.eq (g2 := F0 m 135 ls [.int (nI (zpc (mf_near m_at Wd R (Wd * y.toNatClampNeg + x.toNatClampNeg))))]) rfl ?_
            have e_ : mf_lamp m_at Wd R x y what = (nI (zpc (mf_near m_at Wd R (Wd * y.toNatClampNeg + x.toNatClampNeg))), 0) := by rw [mf_lamp, if_neg c_1, if_pos c_3, if_pos c_4, if_neg c_5, if_pos c_6]
            exact zr_mi hx hb hr hlocks hP hD hS dX7_lamp_135 (by rw [e_])  (by rw [e_]) trivial
        · refine lv_aload_n hx hb dX7_lamp_62 rfl (lv_at hl 3 rfl) ?_
          refine va_get (D := G.1) (ci := 7) (v := .ref (ad 1)) (C := RX7) (T := TX7) (N := 39) hx hb hts in_X7 hown hK.1 hP 0 rfl rfl 0 (Nat.le_of_ble_eq_true rfl) (hts _ q1467) (fun _ h => h) rfl dX7_lamp_63 ?_
          refine lv_iconst (v := 3) hx hb dX7_lamp_66 (by decide) ?_
          refine zr_iald 3 (v := m_at 3) hx hb hK hP 1 rfl rfl (Nat.le_of_ble_eq_true rfl) rfl (by decide) rfl dX7_lamp_67 ?_
          refine lv_iload hx hb dX7_lamp_68 (lv_at hl 0 rfl) ?_
          refine lv_iand hx hb dX7_lamp_70 ?_
          refine lv_if_ne (tgt := 78) hx hb dX7_lamp_71 (by decide) (fun c_13 => ?_) (fun c_13 => ?_)
          · refine lv_iconst (v := 1) hx hb dX7_lamp_78 (by decide) ?_
            refine lv_goto (tgt := 132) hx hb dX7_lamp_79 (by decide) ?_
            refine zr_muV (F := ()) (ff := fun _ => True) (rr := fun _ => some (.int 1)) (w1 := fun _ => (mW G ad 0 m_top m_bottom m_taped m_size m_token m_from m_end m_value m_faultKind m_faultPlace m_faults m_seen m_depth m_counted m_lead m_round m_tried m_triedMany m_drawn m_ranSteps m_isTold m_marks m_at m_names m_sort m_trayMany m_trays m_tape m_text m_opened m_beside m_then m_ways m_further m_canBe m_loops m_ran m_told0)) ⟨hx, hb, hml, hown, hts⟩ (mt_mf_gives l G ad m_status m_top m_bottom m_taped m_size m_token m_from m_end m_value m_faultKind m_faultPlace m_faults m_seen m_depth m_counted m_lead m_round m_tried m_triedMany m_drawn m_ranSteps m_isTold m_marks m_at m_names m_sort m_trayMany m_trays m_tape m_text m_opened m_beside m_then m_ways m_further m_canBe m_loops m_ran m_told0 1 H.size) (cwV 1 hts (lw_V q1751 q1753 qs85 q144 q1754) rfl rfl rfl hd_X7_gives ⟨(Nat.le_of_ble_eq_true rfl), (Nat.le_of_ble_eq_true rfl)⟩) hP hD hS hA hK hE 0 7 rfl rfl rfl hl.1 rfl (Nat.le_of_ble_eq_true rfl) dX7_lamp_132 ⟨Nat.le_refl _, Nat.le_refl _⟩ (fun _ _ _ H locs hP hD hS _ => ?_)
            refine W.eq (g2 := F0 m 135 ls [.int 1]) rfl ?_
            have e_ : mf_lamp m_at Wd R x y what = (1, 0) := by rw [mf_lamp, if_neg c_1, if_pos c_3, if_pos c_4, if_pos c_5, if_neg c_13]
            exact zr_mi hx hb hr hlocks hP hD hS dX7_lamp_135 (by rw [e_])  (by rw [e_]) trivial
          · refine lv_iconst (v := 0) hx hb dX7_lamp_74 (by decide) ?_
            refine lv_goto (tgt := 132) hx hb dX7_lamp_75 (by decide) ?_
            refine zr_muV (F := ()) (ff := fun _ => True) (rr := fun _ => some (.int 0)) (w1 := fun _ => (mW G ad 0 m_top m_bottom m_taped m_size m_token m_from m_end m_value m_faultKind m_faultPlace m_faults m_seen m_depth m_counted m_lead m_round m_tried m_triedMany m_drawn m_ranSteps m_isTold m_marks m_at m_names m_sort m_trayMany m_trays m_tape m_text m_opened m_beside m_then m_ways m_further m_canBe m_loops m_ran m_told0)) ⟨hx, hb, hml, hown, hts⟩ (mt_mf_gives l G ad m_status m_top m_bottom m_taped m_size m_token m_from m_end m_value m_faultKind m_faultPlace m_faults m_seen m_depth m_counted m_lead m_round m_tried m_triedMany m_drawn m_ranSteps m_isTold m_marks m_at m_names m_sort m_trayMany m_trays m_tape m_text m_opened m_beside m_then m_ways m_further m_canBe m_loops m_ran m_told0 0 H.size) (cwV 1 hts (lw_V q1751 q1753 qs85 q144 q1754) rfl rfl rfl hd_X7_gives ⟨(Nat.le_of_ble_eq_true rfl), (Nat.le_of_ble_eq_true rfl)⟩) hP hD hS hA hK hE 0 7 rfl rfl rfl hl.1 rfl (Nat.le_of_ble_eq_true rfl) dX7_lamp_132 ⟨Nat.le_refl _, Nat.le_refl _⟩ (fun _ _ _ H locs hP hD hS _ => ?_)
            refine W.eq (g2 := F0 m 135 ls [.int 0]) rfl ?_
            have e_ : mf_lamp m_at Wd R x y what = (0, 0) := by rw [mf_lamp, if_neg c_1, if_pos c_3, if_pos c_4, if_pos c_5, if_pos c_13]
            exact zr_mi hx hb hr hlocks hP hD hS dX7_lamp_135 (by rw [e_])  (by rw [e_]) trivial
      · refine lv_aload_n hx hb dX7_lamp_26 rfl (lv_at hl 1 rfl) ?_
        refine lv_iload hx hb dX7_lamp_27 (lv_at hl 0 rfl) ?_
        refine zr_muV (F := ()) (ff := fun _ => True) (rr := fun _ => some (.int (-1))) (w1 := fun _ => (mW G ad (mf_wrongHouse m_at Wd R x y) m_top m_bottom m_taped m_size m_token m_from m_end m_value m_faultKind m_faultPlace m_faults m_seen m_depth m_counted m_lead m_round m_tried m_triedMany m_drawn m_ranSteps m_isTold m_marks m_at m_names m_sort m_trayMany m_trays m_tape m_text m_opened m_beside m_then m_ways m_further m_canBe m_loops m_ran m_told0)) ⟨hx, hb, hml, hown, hts⟩ (mt_mf_refuse l G ad m_status m_top m_bottom m_taped m_size m_token m_from m_end m_value m_faultKind m_faultPlace m_faults m_seen m_depth m_counted m_lead m_round m_tried m_triedMany m_drawn m_ranSteps m_isTold m_marks m_at m_names m_sort m_trayMany m_trays m_tape m_text m_opened m_beside m_then m_ways m_further m_canBe m_loops m_ran m_told0 (mf_wrongHouse m_at Wd R x y) H.size) (cwV 1 hts (lw_V q1666 q1668 qs66 q144 q1669) rfl rfl rfl hd_X7_refuse ⟨(Nat.le_of_ble_eq_true rfl), (Nat.le_of_ble_eq_true rfl)⟩) hP hD hS hA hK hE 0 7 rfl rfl rfl hl.1 rfl (Nat.le_of_ble_eq_true rfl) dX7_lamp_29 ⟨Nat.le_refl _, Nat.le_refl _⟩ (fun _ _ _ H locs hP hD hS _ => ?_)
        refine W.eq (g2 := F0 m 32 ls [.int (-1)]) rfl ?_
        have e_ : mf_lamp m_at Wd R x y what = ((-1), mf_wrongHouse m_at Wd R x y) := by rw [mf_lamp, if_neg c_1, if_pos c_3, if_neg c_4]
        exact zr_mi hx hb hr hlocks hP hD hS dX7_lamp_32 (by rw [e_])  (by rw [e_]) trivial
    · refine lv_iconst (v := 1) hx hb dX7_lamp_9 (by decide) ?_
      refine lv_goto (tgt := 19) hx hb dX7_lamp_10 (by decide) ?_
      refine lv_istore (lv' := [(4, .int 1), (0, .ref (ad 0)), (1, .int x), (2, .int y), (3, .int what)]) hx hb dX7_lamp_19 hl (by decide) rfl (fun ls hl => ?_)
      refine lv_iload hx hb dX7_lamp_21 (lv_at hl 0 rfl) ?_
      refine lv_if_le (tgt := 33) hx hb dX7_lamp_23 (by decide) (fun z => absurd z (by decide)) (fun _ => ?_)
      refine lv_aload_n hx hb dX7_lamp_26 rfl (lv_at hl 1 rfl) ?_
      refine lv_iload hx hb dX7_lamp_27 (lv_at hl 0 rfl) ?_
      refine zr_muV (F := ()) (ff := fun _ => True) (rr := fun _ => some (.int (-1))) (w1 := fun _ => (mW G ad 1 m_top m_bottom m_taped m_size m_token m_from m_end m_value m_faultKind m_faultPlace m_faults m_seen m_depth m_counted m_lead m_round m_tried m_triedMany m_drawn m_ranSteps m_isTold m_marks m_at m_names m_sort m_trayMany m_trays m_tape m_text m_opened m_beside m_then m_ways m_further m_canBe m_loops m_ran m_told0)) ⟨hx, hb, hml, hown, hts⟩ (mt_mf_refuse l G ad m_status m_top m_bottom m_taped m_size m_token m_from m_end m_value m_faultKind m_faultPlace m_faults m_seen m_depth m_counted m_lead m_round m_tried m_triedMany m_drawn m_ranSteps m_isTold m_marks m_at m_names m_sort m_trayMany m_trays m_tape m_text m_opened m_beside m_then m_ways m_further m_canBe m_loops m_ran m_told0 1 H.size) (cwV 1 hts (lw_V q1666 q1668 qs66 q144 q1669) rfl rfl rfl hd_X7_refuse ⟨(Nat.le_of_ble_eq_true rfl), (Nat.le_of_ble_eq_true rfl)⟩) hP hD hS hA hK hE 0 7 rfl rfl rfl hl.1 rfl (Nat.le_of_ble_eq_true rfl) dX7_lamp_29 ⟨Nat.le_refl _, Nat.le_refl _⟩ (fun _ _ _ H locs hP hD hS _ => ?_)
      refine W.eq (g2 := F0 m 32 ls [.int (-1)]) rfl ?_
      have e_ : mf_lamp m_at Wd R x y what = ((-1), 1) := by rw [mf_lamp, if_neg c_1, if_neg c_3]
      exact zr_mi hx hb hr hlocks hP hD hS dX7_lamp_32 (by rw [e_])  (by rw [e_]) trivial
def mf_rule (m_at : Nat → Int32) (nr : Nat) (ru : Int32) (what : Int32) : Int32 × Int32 :=
  (if (mf_isRule nr ru) = true then
    (if what < 0 then
      ((-1), 1)
    else
      (if 1 < what then
        ((-1), 1)
      else
        (m_at (12 + (2 * ru.toNatClampNeg) + what.toNatClampNeg), 0)))
  else
    ((-1), 1))
theorem hd_X7_rule : yX7_rule.cls = RX7 ∧ yX7_rule.cls ≠ "java/lang/invoke/MethodHandle" ∧ yX7_rule.cls ≠ "java/lang/invoke/VarHandle" ∧ (parseMethodDescriptor yX7_rule.desc).map (fun d => d.parameters.length) = some 2 := by decide +kernel
set_option maxHeartbeats 4000000 in
set_option maxRecDepth 100000 in
theorem mt_mf_rule (l : Launch) (G : zG) (ad : Nat → Nat) (m_status : Int32) (m_top : Int64) (m_bottom : Int64) (m_taped : Int32) (m_size : Int32) (m_token : Int32) (m_from : Int32) (m_end : Int32) (m_value : Int32) (m_faultKind : Int32) (m_faultPlace : Int32) (m_faults : Int32) (m_seen : Int32) (m_depth : Int32) (m_counted : Int32) (m_lead : Int32) (m_round : Int32) (m_tried : Int32) (m_triedMany : Int32) (m_drawn : Int32) (m_ranSteps : Int32) (m_isTold : Bool) (m_marks : Int32) (m_at : Nat → Int32) (m_names : Nat → Int64) (m_sort : Nat → Int32) (m_trayMany : Nat → Int32) (m_trays : Nat → Int64) (m_tape : Nat → Int32) (m_text : Nat → Int32) (m_opened : Nat → Int32) (m_beside : Nat → Int32) (m_then : Nat → Int32) (m_ways : Nat → Int64) (m_further : Nat → Int64) (m_canBe : Nat → Int32) (m_loops : Nat → Int32) (m_ran : Nat → Int32) (m_told0 : Nat → Int32) (Wd : Nat) (R : Nat) (nr : Nat) (nc : Nat) (ru : Int32) (what : Int32) (hG : mOK m_at Wd R nr nc) (sz : Nat) : Met l yX7_rule (ws_ yX7_rule cX7_rule 3 (some .int)) (zR 2 0 0) (zPm G sz [.ref (ad 0), .int ru, .int what] (mW G ad m_status m_top m_bottom m_taped m_size m_token m_from m_end m_value m_faultKind m_faultPlace m_faults m_seen m_depth m_counted m_lead m_round m_tried m_triedMany m_drawn m_ranSteps m_isTold m_marks m_at m_names m_sort m_trayMany m_trays m_tape m_text m_opened m_beside m_then m_ways m_further m_canBe m_loops m_ran m_told0)) (zQm G (True) (some (.int ((mf_rule m_at nr ru what).1))) (mW G ad ((mf_rule m_at nr ru what).2) m_top m_bottom m_taped m_size m_token m_from m_end m_value m_faultKind m_faultPlace m_faults m_seen m_depth m_counted m_lead m_round m_tried m_triedMany m_drawn m_ranSteps m_isTold m_marks m_at m_names m_sort m_trayMany m_trays m_tape m_text m_opened m_beside m_then m_ways m_further m_canBe m_loops m_ran m_told0) (va_A (mW G ad m_status m_top m_bottom m_taped m_size m_token m_from m_end m_value m_faultKind m_faultPlace m_faults m_seen m_depth m_counted m_lead m_round m_tried m_triedMany m_drawn m_ranSteps m_isTold m_marks m_at m_names m_sort m_trayMany m_trays m_tape m_text m_opened m_beside m_then m_ways m_further m_canBe m_loops m_ran m_told0) sz)) 0 0 (va_A (mW G ad m_status m_top m_bottom m_taped m_size m_token m_from m_end m_value m_faultKind m_faultPlace m_faults m_seen m_depth m_counted m_lead m_round m_tried m_triedMany m_drawn m_ranSteps m_isTold m_marks m_at m_names m_sort m_trayMany m_trays m_tape m_text m_opened m_beside m_then m_ways m_further m_canBe m_loops m_ran m_told0) sz) := by
  refine zr_entM (by decide) (Nat.le_of_ble_eq_true rfl) ?_
  intro p e s m below meth c ⟨hx, hb, hr, hml, hown, hts, hlocks, hnm⟩ ls hl hP hK A hE hA hD hS
  have hown : s.vm.findClass RX7 = some m.cls := hown
  have hl : lv_has ls 3 [(0, .ref (ad 0)), (1, .int ru), (2, .int what)] := hl
  obtain ⟨H, hH⟩ : ∃ H, H = s.heap := ⟨_, rfl⟩
  obtain ⟨locs, hlo⟩ : ∃ L : List Loc, L = [] := ⟨_, rfl⟩
  rw [← hH] at hP
  have hS : va_S A s.heap H locs := by rw [hH, hlo]; exact va_S.rf
  have hgo : W p l e (zR 2 0 0) s m ([.ref (ad 0), .int ru, .int what] : List Value).toArray below meth c H locs 0 0 (MQ below (zQm G (True) (some (.int ((mf_rule m_at nr ru what).1))) (mW G ad ((mf_rule m_at nr ru what).2) m_top m_bottom m_taped m_size m_token m_from m_end m_value m_faultKind m_faultPlace m_faults m_seen m_depth m_counted m_lead m_round m_tried m_triedMany m_drawn m_ranSteps m_isTold m_marks m_at m_names m_sort m_trayMany m_trays m_tape m_text m_opened m_beside m_then m_ways m_further m_canBe m_loops m_ran m_told0) A) ([.ref (ad 0), .int ru, .int what] : List Value).toArray s 0 0 A) (F0 m 0 ls []) := ?_
  · rw [hH, hlo] at hgo; exact hgo
  clear hH hlo
  have hWR := mOK_WR hG
  have hW0 := mOK_W0 hG
  have hW5 := mOK_W5 hG
  have hR0 := mOK_R0 hG
  have hR6 := mOK_R6 hG
  have hn4 := mOK_n4 hG
  have hc6 := mOK_c6 hG
  refine lv_aload_n hx hb dX7_rule_0 rfl (lv_at hl 0 rfl) ?_
  refine lv_iload_n hx hb dX7_rule_1 rfl (lv_at hl 1 rfl) ?_
  refine zr_obV ⟨hx, hb, hml, hown, hts⟩ (mt_mf_isRule l G ad m_status m_top m_bottom m_taped m_size m_token m_from m_end m_value m_faultKind m_faultPlace m_faults m_seen m_depth m_counted m_lead m_round m_tried m_triedMany m_drawn m_ranSteps m_isTold m_marks m_at m_names m_sort m_trayMany m_trays m_tape m_text m_opened m_beside m_then m_ways m_further m_canBe m_loops m_ran m_told0 Wd R nr nc ru hG) (cwV 1 hts (lw_V q1823 q1825 qs98 q144 q1826) rfl rfl rfl hd_X7_isRule ⟨(Nat.le_of_ble_eq_true rfl), (Nat.le_of_ble_eq_true rfl)⟩) hP hK (zE_o hE hS) 0 7 rfl rfl rfl hl.1 rfl (Nat.le_of_ble_eq_true rfl) dX7_rule_2 ⟨Nat.le_refl _, Nat.le_refl _⟩ ?_
  refine zr_eqB (mf_isRule nr ru) (tgt := 37) hx hb dX7_rule_5 (by decide) (fun c_1 => ?_) (fun c_1 => ?_)
  · refine lv_aload_n hx hb dX7_rule_37 rfl (lv_at hl 0 rfl) ?_
    refine lv_iconst (v := 1) hx hb dX7_rule_38 (by decide) ?_
    refine zr_muV (F := ()) (ff := fun _ => True) (rr := fun _ => some (.int (-1))) (w1 := fun _ => (mW G ad 1 m_top m_bottom m_taped m_size m_token m_from m_end m_value m_faultKind m_faultPlace m_faults m_seen m_depth m_counted m_lead m_round m_tried m_triedMany m_drawn m_ranSteps m_isTold m_marks m_at m_names m_sort m_trayMany m_trays m_tape m_text m_opened m_beside m_then m_ways m_further m_canBe m_loops m_ran m_told0)) ⟨hx, hb, hml, hown, hts⟩ (mt_mf_refuse l G ad m_status m_top m_bottom m_taped m_size m_token m_from m_end m_value m_faultKind m_faultPlace m_faults m_seen m_depth m_counted m_lead m_round m_tried m_triedMany m_drawn m_ranSteps m_isTold m_marks m_at m_names m_sort m_trayMany m_trays m_tape m_text m_opened m_beside m_then m_ways m_further m_canBe m_loops m_ran m_told0 1 H.size) (cwV 1 hts (lw_V q1666 q1668 qs66 q144 q1669) rfl rfl rfl hd_X7_refuse ⟨(Nat.le_of_ble_eq_true rfl), (Nat.le_of_ble_eq_true rfl)⟩) hP hD hS hA hK hE 0 7 rfl rfl rfl hl.1 rfl (Nat.le_of_ble_eq_true rfl) dX7_rule_39 ⟨Nat.le_refl _, Nat.le_refl _⟩ (fun _ _ _ H locs hP hD hS _ => ?_)
    refine W.eq (g2 := F0 m 42 ls [.int (-1)]) rfl ?_
    have e_ : mf_rule m_at nr ru what = ((-1), 1) := by rw [mf_rule, if_neg c_1]
    exact zr_mi hx hb hr hlocks hP hD hS dX7_rule_42 (by rw [e_])  (by rw [e_]) trivial
  · obtain ⟨hr0, hr1⟩ := isRule_t hn4 c_1
    refine lv_iload_n hx hb dX7_rule_8 rfl (lv_at hl 2 rfl) ?_
    refine lv_if_lt (tgt := 37) hx hb dX7_rule_9 (by decide) (fun c_3 => ?_) (fun c_3 => ?_)
    · refine lv_aload_n hx hb dX7_rule_37 rfl (lv_at hl 0 rfl) ?_
      refine lv_iconst (v := 1) hx hb dX7_rule_38 (by decide) ?_
      refine zr_muV (F := ()) (ff := fun _ => True) (rr := fun _ => some (.int (-1))) (w1 := fun _ => (mW G ad 1 m_top m_bottom m_taped m_size m_token m_from m_end m_value m_faultKind m_faultPlace m_faults m_seen m_depth m_counted m_lead m_round m_tried m_triedMany m_drawn m_ranSteps m_isTold m_marks m_at m_names m_sort m_trayMany m_trays m_tape m_text m_opened m_beside m_then m_ways m_further m_canBe m_loops m_ran m_told0)) ⟨hx, hb, hml, hown, hts⟩ (mt_mf_refuse l G ad m_status m_top m_bottom m_taped m_size m_token m_from m_end m_value m_faultKind m_faultPlace m_faults m_seen m_depth m_counted m_lead m_round m_tried m_triedMany m_drawn m_ranSteps m_isTold m_marks m_at m_names m_sort m_trayMany m_trays m_tape m_text m_opened m_beside m_then m_ways m_further m_canBe m_loops m_ran m_told0 1 H.size) (cwV 1 hts (lw_V q1666 q1668 qs66 q144 q1669) rfl rfl rfl hd_X7_refuse ⟨(Nat.le_of_ble_eq_true rfl), (Nat.le_of_ble_eq_true rfl)⟩) hP hD hS hA hK hE 0 7 rfl rfl rfl hl.1 rfl (Nat.le_of_ble_eq_true rfl) dX7_rule_39 ⟨Nat.le_refl _, Nat.le_refl _⟩ (fun _ _ _ H locs hP hD hS _ => ?_)
      refine W.eq (g2 := F0 m 42 ls [.int (-1)]) rfl ?_
      have e_ : mf_rule m_at nr ru what = ((-1), 1) := by rw [mf_rule, if_pos c_1, if_pos c_3]
      exact zr_mi hx hb hr hlocks hP hD hS dX7_rule_42 (by rw [e_])  (by rw [e_]) trivial
    · have hw0 := c_3
      refine lv_iload_n hx hb dX7_rule_12 rfl (lv_at hl 2 rfl) ?_
      refine lv_iconst (v := 1) hx hb dX7_rule_13 (by decide) ?_
      refine lv_icmp_gt (tgt := 37) hx hb dX7_rule_14 (by decide) (fun c_5 => ?_) (fun c_5 => ?_)
      · refine lv_aload_n hx hb dX7_rule_37 rfl (lv_at hl 0 rfl) ?_
        refine lv_iconst (v := 1) hx hb dX7_rule_38 (by decide) ?_
        refine zr_muV (F := ()) (ff := fun _ => True) (rr := fun _ => some (.int (-1))) (w1 := fun _ => (mW G ad 1 m_top m_bottom m_taped m_size m_token m_from m_end m_value m_faultKind m_faultPlace m_faults m_seen m_depth m_counted m_lead m_round m_tried m_triedMany m_drawn m_ranSteps m_isTold m_marks m_at m_names m_sort m_trayMany m_trays m_tape m_text m_opened m_beside m_then m_ways m_further m_canBe m_loops m_ran m_told0)) ⟨hx, hb, hml, hown, hts⟩ (mt_mf_refuse l G ad m_status m_top m_bottom m_taped m_size m_token m_from m_end m_value m_faultKind m_faultPlace m_faults m_seen m_depth m_counted m_lead m_round m_tried m_triedMany m_drawn m_ranSteps m_isTold m_marks m_at m_names m_sort m_trayMany m_trays m_tape m_text m_opened m_beside m_then m_ways m_further m_canBe m_loops m_ran m_told0 1 H.size) (cwV 1 hts (lw_V q1666 q1668 qs66 q144 q1669) rfl rfl rfl hd_X7_refuse ⟨(Nat.le_of_ble_eq_true rfl), (Nat.le_of_ble_eq_true rfl)⟩) hP hD hS hA hK hE 0 7 rfl rfl rfl hl.1 rfl (Nat.le_of_ble_eq_true rfl) dX7_rule_39 ⟨Nat.le_refl _, Nat.le_refl _⟩ (fun _ _ _ H locs hP hD hS _ => ?_)
        refine W.eq (g2 := F0 m 42 ls [.int (-1)]) rfl ?_
        have e_ : mf_rule m_at nr ru what = ((-1), 1) := by rw [mf_rule, if_pos c_1, if_neg c_3, if_pos c_5]
        exact zr_mi hx hb hr hlocks hP hD hS dX7_rule_42 (by rw [e_])  (by rw [e_]) trivial
      · have hw1 := z_ngt 1 (by decide) hw0 c_5
        refine lv_aload_n hx hb dX7_rule_17 rfl (lv_at hl 0 rfl) ?_
        refine lv_aload_n hx hb dX7_rule_18 rfl (lv_at hl 0 rfl) ?_
        refine va_get (D := G.1) (ci := 7) (v := .ref (ad 1)) (C := RX7) (T := TX7) (N := 39) hx hb hts in_X7 hown hK.1 hP 0 rfl rfl 0 (Nat.le_of_ble_eq_true rfl) (hts _ q1467) (fun _ h => h) rfl dX7_rule_19 ?_
        refine lv_bipush (v := 12) hx hb dX7_rule_22 (by decide) ?_
        refine lv_iconst (v := 2) hx hb dX7_rule_24 (by decide) ?_
        refine lv_iload_n hx hb dX7_rule_25 rfl (lv_at hl 1 rfl) ?_
        refine zr_val (congrArg Value.int (z_nn hr0)) ?_
        refine W.eq (g2 := F0 m 26 ls [.int (nI ru.toNatClampNeg), .int 2, .int 12, .ref (ad 1), .ref (ad 0)]) rfl ?_
        refine zr_imulN 2 ru.toNatClampNeg hx hb dX7_rule_26 ?_
        refine zr_iaddN 12 (2 * ru.toNatClampNeg) hx hb dX7_rule_27 ?_
        refine lv_iload_n hx hb dX7_rule_28 rfl (lv_at hl 2 rfl) ?_
        refine zr_val (congrArg Value.int (z_nn hw0)) ?_
        refine W.eq (g2 := F0 m 29 ls [.int (nI what.toNatClampNeg), .int (nI (12 + (2 * ru.toNatClampNeg))), .ref (ad 1), .ref (ad 0)]) rfl ?_
        refine zr_iaddN (12 + (2 * ru.toNatClampNeg)) what.toNatClampNeg hx hb dX7_rule_29 ?_
        refine zr_val (v' := .int (nI (12 + (2 * ru.toNatClampNeg) + what.toNatClampNeg))) (by rfl) ?_
        refine zr_iald (12 + (2 * ru.toNatClampNeg) + what.toNatClampNeg) (v := m_at (12 + (2 * ru.toNatClampNeg) + what.toNatClampNeg)) hx hb hK hP 1 rfl rfl (Nat.le_of_ble_eq_true rfl) rfl (by omega) rfl dX7_rule_30 ?_
        refine zr_muV (F := ()) (ff := fun _ => True) (rr := fun _ => some (.int (m_at (12 + (2 * ru.toNatClampNeg) + what.toNatClampNeg)))) (w1 := fun _ => (mW G ad 0 m_top m_bottom m_taped m_size m_token m_from m_end m_value m_faultKind m_faultPlace m_faults m_seen m_depth m_counted m_lead m_round m_tried m_triedMany m_drawn m_ranSteps m_isTold m_marks m_at m_names m_sort m_trayMany m_trays m_tape m_text m_opened m_beside m_then m_ways m_further m_canBe m_loops m_ran m_told0)) ⟨hx, hb, hml, hown, hts⟩ (mt_mf_gives l G ad m_status m_top m_bottom m_taped m_size m_token m_from m_end m_value m_faultKind m_faultPlace m_faults m_seen m_depth m_counted m_lead m_round m_tried m_triedMany m_drawn m_ranSteps m_isTold m_marks m_at m_names m_sort m_trayMany m_trays m_tape m_text m_opened m_beside m_then m_ways m_further m_canBe m_loops m_ran m_told0 (m_at (12 + (2 * ru.toNatClampNeg) + what.toNatClampNeg)) H.size) (cwV 1 hts (lw_V q1751 q1753 qs85 q144 q1754) rfl rfl rfl hd_X7_gives ⟨(Nat.le_of_ble_eq_true rfl), (Nat.le_of_ble_eq_true rfl)⟩) hP hD hS hA hK hE 0 7 rfl rfl rfl hl.1 rfl (Nat.le_of_ble_eq_true rfl) dX7_rule_31 ⟨Nat.le_refl _, Nat.le_refl _⟩ (fun _ _ _ H locs hP hD hS _ => ?_)
        refine W.eq (g2 := F0 m 34 ls [.int (m_at (12 + (2 * ru.toNatClampNeg) + what.toNatClampNeg))]) rfl ?_
        refine lv_goto (tgt := 42) hx hb dX7_rule_34 (by decide) ?_
        have e_ : mf_rule m_at nr ru what = (m_at (12 + (2 * ru.toNatClampNeg) + what.toNatClampNeg), 0) := by rw [mf_rule, if_pos c_1, if_neg c_3, if_neg c_5]
        exact zr_mi hx hb hr hlocks hP hD hS dX7_rule_42 (by rw [e_])  (by rw [e_]) trivial
def mf_citizen (m_at : Nat → Int32) (nc : Nat) (ci : Int32) (what : Int32) : Int32 × Int32 :=
  (if (mf_isCitizen nc ci) = true then
    (if what < 0 then
      ((-1), 1)
    else
      (if 1 < what then
        ((-1), 1)
      else
        (m_at (20 + (2 * ci.toNatClampNeg) + what.toNatClampNeg), 0)))
  else
    ((-1), 1))
theorem hd_X7_citizen : yX7_citizen.cls = RX7 ∧ yX7_citizen.cls ≠ "java/lang/invoke/MethodHandle" ∧ yX7_citizen.cls ≠ "java/lang/invoke/VarHandle" ∧ (parseMethodDescriptor yX7_citizen.desc).map (fun d => d.parameters.length) = some 2 := by decide +kernel
set_option maxHeartbeats 4000000 in
set_option maxRecDepth 100000 in
theorem mt_mf_citizen (l : Launch) (G : zG) (ad : Nat → Nat) (m_status : Int32) (m_top : Int64) (m_bottom : Int64) (m_taped : Int32) (m_size : Int32) (m_token : Int32) (m_from : Int32) (m_end : Int32) (m_value : Int32) (m_faultKind : Int32) (m_faultPlace : Int32) (m_faults : Int32) (m_seen : Int32) (m_depth : Int32) (m_counted : Int32) (m_lead : Int32) (m_round : Int32) (m_tried : Int32) (m_triedMany : Int32) (m_drawn : Int32) (m_ranSteps : Int32) (m_isTold : Bool) (m_marks : Int32) (m_at : Nat → Int32) (m_names : Nat → Int64) (m_sort : Nat → Int32) (m_trayMany : Nat → Int32) (m_trays : Nat → Int64) (m_tape : Nat → Int32) (m_text : Nat → Int32) (m_opened : Nat → Int32) (m_beside : Nat → Int32) (m_then : Nat → Int32) (m_ways : Nat → Int64) (m_further : Nat → Int64) (m_canBe : Nat → Int32) (m_loops : Nat → Int32) (m_ran : Nat → Int32) (m_told0 : Nat → Int32) (Wd : Nat) (R : Nat) (nr : Nat) (nc : Nat) (ci : Int32) (what : Int32) (hG : mOK m_at Wd R nr nc) (sz : Nat) : Met l yX7_citizen (ws_ yX7_citizen cX7_citizen 3 (some .int)) (zR 2 0 0) (zPm G sz [.ref (ad 0), .int ci, .int what] (mW G ad m_status m_top m_bottom m_taped m_size m_token m_from m_end m_value m_faultKind m_faultPlace m_faults m_seen m_depth m_counted m_lead m_round m_tried m_triedMany m_drawn m_ranSteps m_isTold m_marks m_at m_names m_sort m_trayMany m_trays m_tape m_text m_opened m_beside m_then m_ways m_further m_canBe m_loops m_ran m_told0)) (zQm G (True) (some (.int ((mf_citizen m_at nc ci what).1))) (mW G ad ((mf_citizen m_at nc ci what).2) m_top m_bottom m_taped m_size m_token m_from m_end m_value m_faultKind m_faultPlace m_faults m_seen m_depth m_counted m_lead m_round m_tried m_triedMany m_drawn m_ranSteps m_isTold m_marks m_at m_names m_sort m_trayMany m_trays m_tape m_text m_opened m_beside m_then m_ways m_further m_canBe m_loops m_ran m_told0) (va_A (mW G ad m_status m_top m_bottom m_taped m_size m_token m_from m_end m_value m_faultKind m_faultPlace m_faults m_seen m_depth m_counted m_lead m_round m_tried m_triedMany m_drawn m_ranSteps m_isTold m_marks m_at m_names m_sort m_trayMany m_trays m_tape m_text m_opened m_beside m_then m_ways m_further m_canBe m_loops m_ran m_told0) sz)) 0 0 (va_A (mW G ad m_status m_top m_bottom m_taped m_size m_token m_from m_end m_value m_faultKind m_faultPlace m_faults m_seen m_depth m_counted m_lead m_round m_tried m_triedMany m_drawn m_ranSteps m_isTold m_marks m_at m_names m_sort m_trayMany m_trays m_tape m_text m_opened m_beside m_then m_ways m_further m_canBe m_loops m_ran m_told0) sz) := by
  refine zr_entM (by decide) (Nat.le_of_ble_eq_true rfl) ?_
  intro p e s m below meth c ⟨hx, hb, hr, hml, hown, hts, hlocks, hnm⟩ ls hl hP hK A hE hA hD hS
  have hown : s.vm.findClass RX7 = some m.cls := hown
  have hl : lv_has ls 3 [(0, .ref (ad 0)), (1, .int ci), (2, .int what)] := hl
  obtain ⟨H, hH⟩ : ∃ H, H = s.heap := ⟨_, rfl⟩
  obtain ⟨locs, hlo⟩ : ∃ L : List Loc, L = [] := ⟨_, rfl⟩
  rw [← hH] at hP
  have hS : va_S A s.heap H locs := by rw [hH, hlo]; exact va_S.rf
  have hgo : W p l e (zR 2 0 0) s m ([.ref (ad 0), .int ci, .int what] : List Value).toArray below meth c H locs 0 0 (MQ below (zQm G (True) (some (.int ((mf_citizen m_at nc ci what).1))) (mW G ad ((mf_citizen m_at nc ci what).2) m_top m_bottom m_taped m_size m_token m_from m_end m_value m_faultKind m_faultPlace m_faults m_seen m_depth m_counted m_lead m_round m_tried m_triedMany m_drawn m_ranSteps m_isTold m_marks m_at m_names m_sort m_trayMany m_trays m_tape m_text m_opened m_beside m_then m_ways m_further m_canBe m_loops m_ran m_told0) A) ([.ref (ad 0), .int ci, .int what] : List Value).toArray s 0 0 A) (F0 m 0 ls []) := ?_
  · rw [hH, hlo] at hgo; exact hgo
  clear hH hlo
  have hWR := mOK_WR hG
  have hW0 := mOK_W0 hG
  have hW5 := mOK_W5 hG
  have hR0 := mOK_R0 hG
  have hR6 := mOK_R6 hG
  have hn4 := mOK_n4 hG
  have hc6 := mOK_c6 hG
  refine lv_aload_n hx hb dX7_citizen_0 rfl (lv_at hl 0 rfl) ?_
  refine lv_iload_n hx hb dX7_citizen_1 rfl (lv_at hl 1 rfl) ?_
  refine zr_obV ⟨hx, hb, hml, hown, hts⟩ (mt_mf_isCitizen l G ad m_status m_top m_bottom m_taped m_size m_token m_from m_end m_value m_faultKind m_faultPlace m_faults m_seen m_depth m_counted m_lead m_round m_tried m_triedMany m_drawn m_ranSteps m_isTold m_marks m_at m_names m_sort m_trayMany m_trays m_tape m_text m_opened m_beside m_then m_ways m_further m_canBe m_loops m_ran m_told0 Wd R nr nc ci hG) (cwV 1 hts (lw_V q1831 q1833 qs99 q144 q1834) rfl rfl rfl hd_X7_isCitizen ⟨(Nat.le_of_ble_eq_true rfl), (Nat.le_of_ble_eq_true rfl)⟩) hP hK (zE_o hE hS) 0 7 rfl rfl rfl hl.1 rfl (Nat.le_of_ble_eq_true rfl) dX7_citizen_2 ⟨Nat.le_refl _, Nat.le_refl _⟩ ?_
  refine zr_eqB (mf_isCitizen nc ci) (tgt := 37) hx hb dX7_citizen_5 (by decide) (fun c_1 => ?_) (fun c_1 => ?_)
  · refine lv_aload_n hx hb dX7_citizen_37 rfl (lv_at hl 0 rfl) ?_
    refine lv_iconst (v := 1) hx hb dX7_citizen_38 (by decide) ?_
    refine zr_muV (F := ()) (ff := fun _ => True) (rr := fun _ => some (.int (-1))) (w1 := fun _ => (mW G ad 1 m_top m_bottom m_taped m_size m_token m_from m_end m_value m_faultKind m_faultPlace m_faults m_seen m_depth m_counted m_lead m_round m_tried m_triedMany m_drawn m_ranSteps m_isTold m_marks m_at m_names m_sort m_trayMany m_trays m_tape m_text m_opened m_beside m_then m_ways m_further m_canBe m_loops m_ran m_told0)) ⟨hx, hb, hml, hown, hts⟩ (mt_mf_refuse l G ad m_status m_top m_bottom m_taped m_size m_token m_from m_end m_value m_faultKind m_faultPlace m_faults m_seen m_depth m_counted m_lead m_round m_tried m_triedMany m_drawn m_ranSteps m_isTold m_marks m_at m_names m_sort m_trayMany m_trays m_tape m_text m_opened m_beside m_then m_ways m_further m_canBe m_loops m_ran m_told0 1 H.size) (cwV 1 hts (lw_V q1666 q1668 qs66 q144 q1669) rfl rfl rfl hd_X7_refuse ⟨(Nat.le_of_ble_eq_true rfl), (Nat.le_of_ble_eq_true rfl)⟩) hP hD hS hA hK hE 0 7 rfl rfl rfl hl.1 rfl (Nat.le_of_ble_eq_true rfl) dX7_citizen_39 ⟨Nat.le_refl _, Nat.le_refl _⟩ (fun _ _ _ H locs hP hD hS _ => ?_)
    refine W.eq (g2 := F0 m 42 ls [.int (-1)]) rfl ?_
    have e_ : mf_citizen m_at nc ci what = ((-1), 1) := by rw [mf_citizen, if_neg c_1]
    exact zr_mi hx hb hr hlocks hP hD hS dX7_citizen_42 (by rw [e_])  (by rw [e_]) trivial
  · obtain ⟨hr0, hr1⟩ := isCitizen_t hc6 c_1
    refine lv_iload_n hx hb dX7_citizen_8 rfl (lv_at hl 2 rfl) ?_
    refine lv_if_lt (tgt := 37) hx hb dX7_citizen_9 (by decide) (fun c_3 => ?_) (fun c_3 => ?_)
    · refine lv_aload_n hx hb dX7_citizen_37 rfl (lv_at hl 0 rfl) ?_
      refine lv_iconst (v := 1) hx hb dX7_citizen_38 (by decide) ?_
      refine zr_muV (F := ()) (ff := fun _ => True) (rr := fun _ => some (.int (-1))) (w1 := fun _ => (mW G ad 1 m_top m_bottom m_taped m_size m_token m_from m_end m_value m_faultKind m_faultPlace m_faults m_seen m_depth m_counted m_lead m_round m_tried m_triedMany m_drawn m_ranSteps m_isTold m_marks m_at m_names m_sort m_trayMany m_trays m_tape m_text m_opened m_beside m_then m_ways m_further m_canBe m_loops m_ran m_told0)) ⟨hx, hb, hml, hown, hts⟩ (mt_mf_refuse l G ad m_status m_top m_bottom m_taped m_size m_token m_from m_end m_value m_faultKind m_faultPlace m_faults m_seen m_depth m_counted m_lead m_round m_tried m_triedMany m_drawn m_ranSteps m_isTold m_marks m_at m_names m_sort m_trayMany m_trays m_tape m_text m_opened m_beside m_then m_ways m_further m_canBe m_loops m_ran m_told0 1 H.size) (cwV 1 hts (lw_V q1666 q1668 qs66 q144 q1669) rfl rfl rfl hd_X7_refuse ⟨(Nat.le_of_ble_eq_true rfl), (Nat.le_of_ble_eq_true rfl)⟩) hP hD hS hA hK hE 0 7 rfl rfl rfl hl.1 rfl (Nat.le_of_ble_eq_true rfl) dX7_citizen_39 ⟨Nat.le_refl _, Nat.le_refl _⟩ (fun _ _ _ H locs hP hD hS _ => ?_)
      refine W.eq (g2 := F0 m 42 ls [.int (-1)]) rfl ?_
      have e_ : mf_citizen m_at nc ci what = ((-1), 1) := by rw [mf_citizen, if_pos c_1, if_pos c_3]
      exact zr_mi hx hb hr hlocks hP hD hS dX7_citizen_42 (by rw [e_])  (by rw [e_]) trivial
    · have hw0 := c_3
      refine lv_iload_n hx hb dX7_citizen_12 rfl (lv_at hl 2 rfl) ?_
      refine lv_iconst (v := 1) hx hb dX7_citizen_13 (by decide) ?_
      refine lv_icmp_gt (tgt := 37) hx hb dX7_citizen_14 (by decide) (fun c_5 => ?_) (fun c_5 => ?_)
      · refine lv_aload_n hx hb dX7_citizen_37 rfl (lv_at hl 0 rfl) ?_
        refine lv_iconst (v := 1) hx hb dX7_citizen_38 (by decide) ?_
        refine zr_muV (F := ()) (ff := fun _ => True) (rr := fun _ => some (.int (-1))) (w1 := fun _ => (mW G ad 1 m_top m_bottom m_taped m_size m_token m_from m_end m_value m_faultKind m_faultPlace m_faults m_seen m_depth m_counted m_lead m_round m_tried m_triedMany m_drawn m_ranSteps m_isTold m_marks m_at m_names m_sort m_trayMany m_trays m_tape m_text m_opened m_beside m_then m_ways m_further m_canBe m_loops m_ran m_told0)) ⟨hx, hb, hml, hown, hts⟩ (mt_mf_refuse l G ad m_status m_top m_bottom m_taped m_size m_token m_from m_end m_value m_faultKind m_faultPlace m_faults m_seen m_depth m_counted m_lead m_round m_tried m_triedMany m_drawn m_ranSteps m_isTold m_marks m_at m_names m_sort m_trayMany m_trays m_tape m_text m_opened m_beside m_then m_ways m_further m_canBe m_loops m_ran m_told0 1 H.size) (cwV 1 hts (lw_V q1666 q1668 qs66 q144 q1669) rfl rfl rfl hd_X7_refuse ⟨(Nat.le_of_ble_eq_true rfl), (Nat.le_of_ble_eq_true rfl)⟩) hP hD hS hA hK hE 0 7 rfl rfl rfl hl.1 rfl (Nat.le_of_ble_eq_true rfl) dX7_citizen_39 ⟨Nat.le_refl _, Nat.le_refl _⟩ (fun _ _ _ H locs hP hD hS _ => ?_)
        refine W.eq (g2 := F0 m 42 ls [.int (-1)]) rfl ?_
        have e_ : mf_citizen m_at nc ci what = ((-1), 1) := by rw [mf_citizen, if_pos c_1, if_neg c_3, if_pos c_5]
        exact zr_mi hx hb hr hlocks hP hD hS dX7_citizen_42 (by rw [e_])  (by rw [e_]) trivial
      · have hw1 := z_ngt 1 (by decide) hw0 c_5
        refine lv_aload_n hx hb dX7_citizen_17 rfl (lv_at hl 0 rfl) ?_
        refine lv_aload_n hx hb dX7_citizen_18 rfl (lv_at hl 0 rfl) ?_
        refine va_get (D := G.1) (ci := 7) (v := .ref (ad 1)) (C := RX7) (T := TX7) (N := 39) hx hb hts in_X7 hown hK.1 hP 0 rfl rfl 0 (Nat.le_of_ble_eq_true rfl) (hts _ q1467) (fun _ h => h) rfl dX7_citizen_19 ?_
        refine lv_bipush (v := 20) hx hb dX7_citizen_22 (by decide) ?_
        refine lv_iconst (v := 2) hx hb dX7_citizen_24 (by decide) ?_
        refine lv_iload_n hx hb dX7_citizen_25 rfl (lv_at hl 1 rfl) ?_
        refine zr_val (congrArg Value.int (z_nn hr0)) ?_
        refine W.eq (g2 := F0 m 26 ls [.int (nI ci.toNatClampNeg), .int 2, .int 20, .ref (ad 1), .ref (ad 0)]) rfl ?_
        refine zr_imulN 2 ci.toNatClampNeg hx hb dX7_citizen_26 ?_
        refine zr_iaddN 20 (2 * ci.toNatClampNeg) hx hb dX7_citizen_27 ?_
        refine lv_iload_n hx hb dX7_citizen_28 rfl (lv_at hl 2 rfl) ?_
        refine zr_val (congrArg Value.int (z_nn hw0)) ?_
        refine W.eq (g2 := F0 m 29 ls [.int (nI what.toNatClampNeg), .int (nI (20 + (2 * ci.toNatClampNeg))), .ref (ad 1), .ref (ad 0)]) rfl ?_
        refine zr_iaddN (20 + (2 * ci.toNatClampNeg)) what.toNatClampNeg hx hb dX7_citizen_29 ?_
        refine zr_val (v' := .int (nI (20 + (2 * ci.toNatClampNeg) + what.toNatClampNeg))) (by rfl) ?_
        refine zr_iald (20 + (2 * ci.toNatClampNeg) + what.toNatClampNeg) (v := m_at (20 + (2 * ci.toNatClampNeg) + what.toNatClampNeg)) hx hb hK hP 1 rfl rfl (Nat.le_of_ble_eq_true rfl) rfl (by omega) rfl dX7_citizen_30 ?_
        refine zr_muV (F := ()) (ff := fun _ => True) (rr := fun _ => some (.int (m_at (20 + (2 * ci.toNatClampNeg) + what.toNatClampNeg)))) (w1 := fun _ => (mW G ad 0 m_top m_bottom m_taped m_size m_token m_from m_end m_value m_faultKind m_faultPlace m_faults m_seen m_depth m_counted m_lead m_round m_tried m_triedMany m_drawn m_ranSteps m_isTold m_marks m_at m_names m_sort m_trayMany m_trays m_tape m_text m_opened m_beside m_then m_ways m_further m_canBe m_loops m_ran m_told0)) ⟨hx, hb, hml, hown, hts⟩ (mt_mf_gives l G ad m_status m_top m_bottom m_taped m_size m_token m_from m_end m_value m_faultKind m_faultPlace m_faults m_seen m_depth m_counted m_lead m_round m_tried m_triedMany m_drawn m_ranSteps m_isTold m_marks m_at m_names m_sort m_trayMany m_trays m_tape m_text m_opened m_beside m_then m_ways m_further m_canBe m_loops m_ran m_told0 (m_at (20 + (2 * ci.toNatClampNeg) + what.toNatClampNeg)) H.size) (cwV 1 hts (lw_V q1751 q1753 qs85 q144 q1754) rfl rfl rfl hd_X7_gives ⟨(Nat.le_of_ble_eq_true rfl), (Nat.le_of_ble_eq_true rfl)⟩) hP hD hS hA hK hE 0 7 rfl rfl rfl hl.1 rfl (Nat.le_of_ble_eq_true rfl) dX7_citizen_31 ⟨Nat.le_refl _, Nat.le_refl _⟩ (fun _ _ _ H locs hP hD hS _ => ?_)
        refine W.eq (g2 := F0 m 34 ls [.int (m_at (20 + (2 * ci.toNatClampNeg) + what.toNatClampNeg))]) rfl ?_
        refine lv_goto (tgt := 42) hx hb dX7_citizen_34 (by decide) ?_
        have e_ : mf_citizen m_at nc ci what = (m_at (20 + (2 * ci.toNatClampNeg) + what.toNatClampNeg), 0) := by rw [mf_citizen, if_pos c_1, if_neg c_3, if_neg c_5]
        exact zr_mi hx hb hr hlocks hP hD hS dX7_citizen_42 (by rw [e_])  (by rw [e_]) trivial
def mf_turn (m_at : Nat → Int32) (Wd : Nat) (R : Nat) (x : Int32) (y : Int32) : Int32 × Int32 × (Nat → Int32) :=
  (if (mf_wrongLamp m_at Wd R x y) ≤ 0 then
    (if (((m_at 3) ^^^ (mf_bitOf Wd x y)) &&& (mf_bitOf Wd x y)) = 0 then
      (0, 0, upd m_at 3 ((m_at 3) ^^^ (mf_bitOf Wd x y)))
    else
      (1, 0, upd m_at 3 ((m_at 3) ^^^ (mf_bitOf Wd x y))))
  else
    ((-1), mf_wrongLamp m_at Wd R x y, m_at))
theorem hd_X7_turn : yX7_turn.cls = RX7 ∧ yX7_turn.cls ≠ "java/lang/invoke/MethodHandle" ∧ yX7_turn.cls ≠ "java/lang/invoke/VarHandle" ∧ (parseMethodDescriptor yX7_turn.desc).map (fun d => d.parameters.length) = some 2 := by decide +kernel
set_option maxHeartbeats 4000000 in
set_option maxRecDepth 100000 in
theorem mt_mf_turn (l : Launch) (G : zG) (ad : Nat → Nat) (m_status : Int32) (m_top : Int64) (m_bottom : Int64) (m_taped : Int32) (m_size : Int32) (m_token : Int32) (m_from : Int32) (m_end : Int32) (m_value : Int32) (m_faultKind : Int32) (m_faultPlace : Int32) (m_faults : Int32) (m_seen : Int32) (m_depth : Int32) (m_counted : Int32) (m_lead : Int32) (m_round : Int32) (m_tried : Int32) (m_triedMany : Int32) (m_drawn : Int32) (m_ranSteps : Int32) (m_isTold : Bool) (m_marks : Int32) (m_at : Nat → Int32) (m_names : Nat → Int64) (m_sort : Nat → Int32) (m_trayMany : Nat → Int32) (m_trays : Nat → Int64) (m_tape : Nat → Int32) (m_text : Nat → Int32) (m_opened : Nat → Int32) (m_beside : Nat → Int32) (m_then : Nat → Int32) (m_ways : Nat → Int64) (m_further : Nat → Int64) (m_canBe : Nat → Int32) (m_loops : Nat → Int32) (m_ran : Nat → Int32) (m_told0 : Nat → Int32) (Wd : Nat) (R : Nat) (nr : Nat) (nc : Nat) (x : Int32) (y : Int32) (hG : mOK m_at Wd R nr nc) (sz : Nat) : Met l yX7_turn (ws_ yX7_turn cX7_turn 4 (some .int)) (zR 4 0 0) (zPm G sz [.ref (ad 0), .int x, .int y] (mW G ad m_status m_top m_bottom m_taped m_size m_token m_from m_end m_value m_faultKind m_faultPlace m_faults m_seen m_depth m_counted m_lead m_round m_tried m_triedMany m_drawn m_ranSteps m_isTold m_marks m_at m_names m_sort m_trayMany m_trays m_tape m_text m_opened m_beside m_then m_ways m_further m_canBe m_loops m_ran m_told0)) (zQm G (mOK ((mf_turn m_at Wd R x y).2.2) Wd R nr nc) (some (.int ((mf_turn m_at Wd R x y).1))) (mW G ad ((mf_turn m_at Wd R x y).2.1) m_top m_bottom m_taped m_size m_token m_from m_end m_value m_faultKind m_faultPlace m_faults m_seen m_depth m_counted m_lead m_round m_tried m_triedMany m_drawn m_ranSteps m_isTold m_marks ((mf_turn m_at Wd R x y).2.2) m_names m_sort m_trayMany m_trays m_tape m_text m_opened m_beside m_then m_ways m_further m_canBe m_loops m_ran m_told0) (va_A (mW G ad m_status m_top m_bottom m_taped m_size m_token m_from m_end m_value m_faultKind m_faultPlace m_faults m_seen m_depth m_counted m_lead m_round m_tried m_triedMany m_drawn m_ranSteps m_isTold m_marks m_at m_names m_sort m_trayMany m_trays m_tape m_text m_opened m_beside m_then m_ways m_further m_canBe m_loops m_ran m_told0) sz)) 0 0 (va_A (mW G ad m_status m_top m_bottom m_taped m_size m_token m_from m_end m_value m_faultKind m_faultPlace m_faults m_seen m_depth m_counted m_lead m_round m_tried m_triedMany m_drawn m_ranSteps m_isTold m_marks m_at m_names m_sort m_trayMany m_trays m_tape m_text m_opened m_beside m_then m_ways m_further m_canBe m_loops m_ran m_told0) sz) := by
  refine zr_entM (by decide) (Nat.le_of_ble_eq_true rfl) ?_
  intro p e s m below meth c ⟨hx, hb, hr, hml, hown, hts, hlocks, hnm⟩ ls hl hP hK A hE hA hD hS
  have hown : s.vm.findClass RX7 = some m.cls := hown
  have hl : lv_has ls 4 [(0, .ref (ad 0)), (1, .int x), (2, .int y)] := hl
  obtain ⟨H, hH⟩ : ∃ H, H = s.heap := ⟨_, rfl⟩
  obtain ⟨locs, hlo⟩ : ∃ L : List Loc, L = [] := ⟨_, rfl⟩
  rw [← hH] at hP
  have hS : va_S A s.heap H locs := by rw [hH, hlo]; exact va_S.rf
  have hgo : W p l e (zR 4 0 0) s m ([.ref (ad 0), .int x, .int y] : List Value).toArray below meth c H locs 0 0 (MQ below (zQm G (mOK ((mf_turn m_at Wd R x y).2.2) Wd R nr nc) (some (.int ((mf_turn m_at Wd R x y).1))) (mW G ad ((mf_turn m_at Wd R x y).2.1) m_top m_bottom m_taped m_size m_token m_from m_end m_value m_faultKind m_faultPlace m_faults m_seen m_depth m_counted m_lead m_round m_tried m_triedMany m_drawn m_ranSteps m_isTold m_marks ((mf_turn m_at Wd R x y).2.2) m_names m_sort m_trayMany m_trays m_tape m_text m_opened m_beside m_then m_ways m_further m_canBe m_loops m_ran m_told0) A) ([.ref (ad 0), .int x, .int y] : List Value).toArray s 0 0 A) (F0 m 0 ls []) := ?_
  · rw [hH, hlo] at hgo; exact hgo
  clear hH hlo
  have hWR := mOK_WR hG
  have hW0 := mOK_W0 hG
  have hW5 := mOK_W5 hG
  have hR0 := mOK_R0 hG
  have hR6 := mOK_R6 hG
  have hn4 := mOK_n4 hG
  have hc6 := mOK_c6 hG
  refine lv_aload_n hx hb dX7_turn_0 rfl (lv_at hl 0 rfl) ?_
  refine lv_iload_n hx hb dX7_turn_1 rfl (lv_at hl 1 rfl) ?_
  refine lv_iload_n hx hb dX7_turn_2 rfl (lv_at hl 2 rfl) ?_
  refine zr_obV ⟨hx, hb, hml, hown, hts⟩ (mt_mf_wrongLamp l G ad m_status m_top m_bottom m_taped m_size m_token m_from m_end m_value m_faultKind m_faultPlace m_faults m_seen m_depth m_counted m_lead m_round m_tried m_triedMany m_drawn m_ranSteps m_isTold m_marks m_at m_names m_sort m_trayMany m_trays m_tape m_text m_opened m_beside m_then m_ways m_further m_canBe m_loops m_ran m_told0 Wd R nr nc x y hG) (cwV 2 hts (lw_V q1839 q1841 qs100 q144 q1842) rfl rfl rfl hd_X7_wrongLamp ⟨(Nat.le_of_ble_eq_true rfl), (Nat.le_of_ble_eq_true rfl)⟩) hP hK (zE_o hE hS) 0 7 rfl rfl rfl hl.1 rfl (Nat.le_of_ble_eq_true rfl) dX7_turn_3 ⟨Nat.le_refl _, Nat.le_refl _⟩ ?_
  refine lv_istore_n (lv' := [(3, .int (mf_wrongLamp m_at Wd R x y)), (0, .ref (ad 0)), (1, .int x), (2, .int y)]) hx hb dX7_turn_6 rfl hl (by decide) rfl (fun ls hl => ?_)
  refine lv_iload_n hx hb dX7_turn_7 rfl (lv_at hl 0 rfl) ?_
  refine lv_if_le (tgt := 17) hx hb dX7_turn_8 (by decide) (fun c_1 => ?_) (fun c_1 => ?_)
  · refine lv_aload_n hx hb dX7_turn_17 rfl (lv_at hl 1 rfl) ?_
    refine va_get (D := G.1) (ci := 7) (v := .ref (ad 1)) (C := RX7) (T := TX7) (N := 39) hx hb hts in_X7 hown hK.1 hP 0 rfl rfl 0 (Nat.le_of_ble_eq_true rfl) (hts _ q1467) (fun _ h => h) rfl dX7_turn_18 ?_
    refine lv_iconst (v := 3) hx hb dX7_turn_21 (by decide) ?_
    refine lv_dup2_11 hx hb dX7_turn_22 rfl rfl ?_
    refine zr_iald 3 (v := m_at 3) hx hb hK hP 1 rfl rfl (Nat.le_of_ble_eq_true rfl) rfl (by decide) rfl dX7_turn_23 ?_
    refine lv_aload_n hx hb dX7_turn_24 rfl (lv_at hl 1 rfl) ?_
    refine lv_iload_n hx hb dX7_turn_25 rfl (lv_at hl 2 rfl) ?_
    refine lv_iload_n hx hb dX7_turn_26 rfl (lv_at hl 3 rfl) ?_
    refine zr_obV ⟨hx, hb, hml, hown, hts⟩ (mt_mf_bitOf l G ad m_status m_top m_bottom m_taped m_size m_token m_from m_end m_value m_faultKind m_faultPlace m_faults m_seen m_depth m_counted m_lead m_round m_tried m_triedMany m_drawn m_ranSteps m_isTold m_marks m_at m_names m_sort m_trayMany m_trays m_tape m_text m_opened m_beside m_then m_ways m_further m_canBe m_loops m_ran m_told0 Wd R nr nc x y hG) (cwV 2 hts (lw_V q1807 q1809 qs95 q144 q1810) rfl rfl rfl hd_X7_bitOf ⟨(Nat.le_of_ble_eq_true rfl), (Nat.le_of_ble_eq_true rfl)⟩) hP hK (zE_o hE hS) 0 7 rfl rfl rfl hl.1 rfl (Nat.le_of_ble_eq_true rfl) dX7_turn_27 ⟨Nat.le_refl _, Nat.le_refl _⟩ ?_
    refine lv_ixor hx hb dX7_turn_30 ?_
    refine zr_iast 3 (ws' := (mW G ad m_status m_top m_bottom m_taped m_size m_token m_from m_end m_value m_faultKind m_faultPlace m_faults m_seen m_depth m_counted m_lead m_round m_tried m_triedMany m_drawn m_ranSteps m_isTold m_marks (upd m_at 3 ((m_at 3) ^^^ (mf_bitOf Wd x y))) m_names m_sort m_trayMany m_trays m_tape m_text m_opened m_beside m_then m_ways m_further m_canBe m_loops m_ran m_told0)) hx hb hK hP hD hS 1 rfl rfl (Nat.le_of_ble_eq_true rfl) rfl (by decide) rfl dX7_turn_31 (fun H locs hP hD hS => ?_)
    refine lv_aload_n hx hb dX7_turn_32 rfl (lv_at hl 1 rfl) ?_
    refine lv_aload_n hx hb dX7_turn_33 rfl (lv_at hl 1 rfl) ?_
    refine va_get (D := G.1) (ci := 7) (v := .ref (ad 1)) (C := RX7) (T := TX7) (N := 39) hx hb hts in_X7 hown hK.1 hP 0 rfl rfl 0 (Nat.le_of_ble_eq_true rfl) (hts _ q1467) (fun _ h => h) rfl dX7_turn_34 ?_
    refine lv_iconst (v := 3) hx hb dX7_turn_37 (by decide) ?_
    refine zr_iald 3 (v := (m_at 3) ^^^ (mf_bitOf Wd x y)) hx hb hK hP 1 rfl rfl (Nat.le_of_ble_eq_true rfl) rfl (by decide) rfl dX7_turn_38 ?_
    refine lv_aload_n hx hb dX7_turn_39 rfl (lv_at hl 1 rfl) ?_
    refine lv_iload_n hx hb dX7_turn_40 rfl (lv_at hl 2 rfl) ?_
    refine lv_iload_n hx hb dX7_turn_41 rfl (lv_at hl 3 rfl) ?_
    refine zr_obV ⟨hx, hb, hml, hown, hts⟩ (mt_mf_bitOf l G ad m_status m_top m_bottom m_taped m_size m_token m_from m_end m_value m_faultKind m_faultPlace m_faults m_seen m_depth m_counted m_lead m_round m_tried m_triedMany m_drawn m_ranSteps m_isTold m_marks (upd m_at 3 ((m_at 3) ^^^ (mf_bitOf Wd x y))) m_names m_sort m_trayMany m_trays m_tape m_text m_opened m_beside m_then m_ways m_further m_canBe m_loops m_ran m_told0 Wd R nr nc x y (mOK_u hG (by omega))) (cwV 2 hts (lw_V q1807 q1809 qs95 q144 q1810) rfl rfl rfl hd_X7_bitOf ⟨(Nat.le_of_ble_eq_true rfl), (Nat.le_of_ble_eq_true rfl)⟩) hP hK (zE_o hE hS) 0 7 rfl rfl rfl hl.1 rfl (Nat.le_of_ble_eq_true rfl) dX7_turn_42 ⟨Nat.le_refl _, Nat.le_refl _⟩ ?_
    refine lv_iand hx hb dX7_turn_45 ?_
    refine lv_if_ne (tgt := 53) hx hb dX7_turn_46 (by decide) (fun c_2 => ?_) (fun c_2 => ?_)
    · refine lv_iconst (v := 1) hx hb dX7_turn_53 (by decide) ?_
      refine zr_muV (F := ()) (ff := fun _ => True) (rr := fun _ => some (.int 1)) (w1 := fun _ => (mW G ad 0 m_top m_bottom m_taped m_size m_token m_from m_end m_value m_faultKind m_faultPlace m_faults m_seen m_depth m_counted m_lead m_round m_tried m_triedMany m_drawn m_ranSteps m_isTold m_marks (upd m_at 3 ((m_at 3) ^^^ (mf_bitOf Wd x y))) m_names m_sort m_trayMany m_trays m_tape m_text m_opened m_beside m_then m_ways m_further m_canBe m_loops m_ran m_told0)) ⟨hx, hb, hml, hown, hts⟩ (mt_mf_gives l G ad m_status m_top m_bottom m_taped m_size m_token m_from m_end m_value m_faultKind m_faultPlace m_faults m_seen m_depth m_counted m_lead m_round m_tried m_triedMany m_drawn m_ranSteps m_isTold m_marks (upd m_at 3 ((m_at 3) ^^^ (mf_bitOf Wd x y))) m_names m_sort m_trayMany m_trays m_tape m_text m_opened m_beside m_then m_ways m_further m_canBe m_loops m_ran m_told0 1 H.size) (cwV 1 hts (lw_V q1751 q1753 qs85 q144 q1754) rfl rfl rfl hd_X7_gives ⟨(Nat.le_of_ble_eq_true rfl), (Nat.le_of_ble_eq_true rfl)⟩) hP hD hS hA hK hE 0 7 rfl rfl rfl hl.1 rfl (Nat.le_of_ble_eq_true rfl) dX7_turn_54 ⟨Nat.le_refl _, Nat.le_refl _⟩ (fun _ _ _ H locs hP hD hS _ => ?_)
      refine W.eq (g2 := F0 m 57 ls [.int 1]) rfl ?_
      have e_ : mf_turn m_at Wd R x y = (1, 0, upd m_at 3 ((m_at 3) ^^^ (mf_bitOf Wd x y))) := by rw [mf_turn, if_pos c_1, if_neg c_2]
      exact zr_mi hx hb hr hlocks hP hD hS dX7_turn_57 (by rw [e_])  (by rw [e_]) (by rw [e_]; exact (mOK_u hG (by omega)))
    · refine lv_iconst (v := 0) hx hb dX7_turn_49 (by decide) ?_
      refine lv_goto (tgt := 54) hx hb dX7_turn_50 (by decide) ?_
      refine zr_muV (F := ()) (ff := fun _ => True) (rr := fun _ => some (.int 0)) (w1 := fun _ => (mW G ad 0 m_top m_bottom m_taped m_size m_token m_from m_end m_value m_faultKind m_faultPlace m_faults m_seen m_depth m_counted m_lead m_round m_tried m_triedMany m_drawn m_ranSteps m_isTold m_marks (upd m_at 3 ((m_at 3) ^^^ (mf_bitOf Wd x y))) m_names m_sort m_trayMany m_trays m_tape m_text m_opened m_beside m_then m_ways m_further m_canBe m_loops m_ran m_told0)) ⟨hx, hb, hml, hown, hts⟩ (mt_mf_gives l G ad m_status m_top m_bottom m_taped m_size m_token m_from m_end m_value m_faultKind m_faultPlace m_faults m_seen m_depth m_counted m_lead m_round m_tried m_triedMany m_drawn m_ranSteps m_isTold m_marks (upd m_at 3 ((m_at 3) ^^^ (mf_bitOf Wd x y))) m_names m_sort m_trayMany m_trays m_tape m_text m_opened m_beside m_then m_ways m_further m_canBe m_loops m_ran m_told0 0 H.size) (cwV 1 hts (lw_V q1751 q1753 qs85 q144 q1754) rfl rfl rfl hd_X7_gives ⟨(Nat.le_of_ble_eq_true rfl), (Nat.le_of_ble_eq_true rfl)⟩) hP hD hS hA hK hE 0 7 rfl rfl rfl hl.1 rfl (Nat.le_of_ble_eq_true rfl) dX7_turn_54 ⟨Nat.le_refl _, Nat.le_refl _⟩ (fun _ _ _ H locs hP hD hS _ => ?_)
      refine W.eq (g2 := F0 m 57 ls [.int 0]) rfl ?_
      have e_ : mf_turn m_at Wd R x y = (0, 0, upd m_at 3 ((m_at 3) ^^^ (mf_bitOf Wd x y))) := by rw [mf_turn, if_pos c_1, if_pos c_2]
      exact zr_mi hx hb hr hlocks hP hD hS dX7_turn_57 (by rw [e_])  (by rw [e_]) (by rw [e_]; exact (mOK_u hG (by omega)))
  · refine lv_aload_n hx hb dX7_turn_11 rfl (lv_at hl 1 rfl) ?_
    refine lv_iload_n hx hb dX7_turn_12 rfl (lv_at hl 0 rfl) ?_
    refine zr_muV (F := ()) (ff := fun _ => True) (rr := fun _ => some (.int (-1))) (w1 := fun _ => (mW G ad (mf_wrongLamp m_at Wd R x y) m_top m_bottom m_taped m_size m_token m_from m_end m_value m_faultKind m_faultPlace m_faults m_seen m_depth m_counted m_lead m_round m_tried m_triedMany m_drawn m_ranSteps m_isTold m_marks m_at m_names m_sort m_trayMany m_trays m_tape m_text m_opened m_beside m_then m_ways m_further m_canBe m_loops m_ran m_told0)) ⟨hx, hb, hml, hown, hts⟩ (mt_mf_refuse l G ad m_status m_top m_bottom m_taped m_size m_token m_from m_end m_value m_faultKind m_faultPlace m_faults m_seen m_depth m_counted m_lead m_round m_tried m_triedMany m_drawn m_ranSteps m_isTold m_marks m_at m_names m_sort m_trayMany m_trays m_tape m_text m_opened m_beside m_then m_ways m_further m_canBe m_loops m_ran m_told0 (mf_wrongLamp m_at Wd R x y) H.size) (cwV 1 hts (lw_V q1666 q1668 qs66 q144 q1669) rfl rfl rfl hd_X7_refuse ⟨(Nat.le_of_ble_eq_true rfl), (Nat.le_of_ble_eq_true rfl)⟩) hP hD hS hA hK hE 0 7 rfl rfl rfl hl.1 rfl (Nat.le_of_ble_eq_true rfl) dX7_turn_13 ⟨Nat.le_refl _, Nat.le_refl _⟩ (fun _ _ _ H locs hP hD hS _ => ?_)
    refine W.eq (g2 := F0 m 16 ls [.int (-1)]) rfl ?_
    have e_ : mf_turn m_at Wd R x y = ((-1), mf_wrongLamp m_at Wd R x y, m_at) := by rw [mf_turn, if_neg c_1]
    exact zr_mi hx hb hr hlocks hP hD hS dX7_turn_16 (by rw [e_])  (by rw [e_]) (by rw [e_]; exact hG)
def mf_paints (m_at : Nat → Int32) (lit : Int32) : Nat × (Nat → Int32) :=
  (zpc (((m_at 3) &&& (m_at 4)) ||| (lit &&& (mf_free m_at))), upd m_at 3 (((m_at 3) &&& (m_at 4)) ||| (lit &&& (mf_free m_at))))
theorem hd_X7_paints : yX7_paints.cls = RX7 ∧ yX7_paints.cls ≠ "java/lang/invoke/MethodHandle" ∧ yX7_paints.cls ≠ "java/lang/invoke/VarHandle" ∧ (parseMethodDescriptor yX7_paints.desc).map (fun d => d.parameters.length) = some 1 := by decide +kernel
set_option maxHeartbeats 4000000 in
set_option maxRecDepth 100000 in
theorem mt_mf_paints (l : Launch) (G : zG) (ad : Nat → Nat) (m_status : Int32) (m_top : Int64) (m_bottom : Int64) (m_taped : Int32) (m_size : Int32) (m_token : Int32) (m_from : Int32) (m_end : Int32) (m_value : Int32) (m_faultKind : Int32) (m_faultPlace : Int32) (m_faults : Int32) (m_seen : Int32) (m_depth : Int32) (m_counted : Int32) (m_lead : Int32) (m_round : Int32) (m_tried : Int32) (m_triedMany : Int32) (m_drawn : Int32) (m_ranSteps : Int32) (m_isTold : Bool) (m_marks : Int32) (m_at : Nat → Int32) (m_names : Nat → Int64) (m_sort : Nat → Int32) (m_trayMany : Nat → Int32) (m_trays : Nat → Int64) (m_tape : Nat → Int32) (m_text : Nat → Int32) (m_opened : Nat → Int32) (m_beside : Nat → Int32) (m_then : Nat → Int32) (m_ways : Nat → Int64) (m_further : Nat → Int64) (m_canBe : Nat → Int32) (m_loops : Nat → Int32) (m_ran : Nat → Int32) (m_told0 : Nat → Int32) (Wd : Nat) (R : Nat) (nr : Nat) (nc : Nat) (lit : Int32) (hG : mOK m_at Wd R nr nc) (sz : Nat) : Met l yX7_paints (ws_ yX7_paints cX7_paints 2 (some .int)) (zR 2 0 0) (zPm G sz [.ref (ad 0), .int lit] (mW G ad m_status m_top m_bottom m_taped m_size m_token m_from m_end m_value m_faultKind m_faultPlace m_faults m_seen m_depth m_counted m_lead m_round m_tried m_triedMany m_drawn m_ranSteps m_isTold m_marks m_at m_names m_sort m_trayMany m_trays m_tape m_text m_opened m_beside m_then m_ways m_further m_canBe m_loops m_ran m_told0)) (zQm G (mOK ((mf_paints m_at lit).2) Wd R nr nc) (some (.int (nI ((mf_paints m_at lit).1)))) (mW G ad m_status m_top m_bottom m_taped m_size m_token m_from m_end m_value m_faultKind m_faultPlace m_faults m_seen m_depth m_counted m_lead m_round m_tried m_triedMany m_drawn m_ranSteps m_isTold m_marks ((mf_paints m_at lit).2) m_names m_sort m_trayMany m_trays m_tape m_text m_opened m_beside m_then m_ways m_further m_canBe m_loops m_ran m_told0) (va_A (mW G ad m_status m_top m_bottom m_taped m_size m_token m_from m_end m_value m_faultKind m_faultPlace m_faults m_seen m_depth m_counted m_lead m_round m_tried m_triedMany m_drawn m_ranSteps m_isTold m_marks m_at m_names m_sort m_trayMany m_trays m_tape m_text m_opened m_beside m_then m_ways m_further m_canBe m_loops m_ran m_told0) sz)) 0 0 (va_A (mW G ad m_status m_top m_bottom m_taped m_size m_token m_from m_end m_value m_faultKind m_faultPlace m_faults m_seen m_depth m_counted m_lead m_round m_tried m_triedMany m_drawn m_ranSteps m_isTold m_marks m_at m_names m_sort m_trayMany m_trays m_tape m_text m_opened m_beside m_then m_ways m_further m_canBe m_loops m_ran m_told0) sz) := by
  refine zr_entM (by decide) (Nat.le_of_ble_eq_true rfl) ?_
  intro p e s m below meth c ⟨hx, hb, hr, hml, hown, hts, hlocks, hnm⟩ ls hl hP hK A hE hA hD hS
  have hown : s.vm.findClass RX7 = some m.cls := hown
  have hl : lv_has ls 2 [(0, .ref (ad 0)), (1, .int lit)] := hl
  obtain ⟨H, hH⟩ : ∃ H, H = s.heap := ⟨_, rfl⟩
  obtain ⟨locs, hlo⟩ : ∃ L : List Loc, L = [] := ⟨_, rfl⟩
  rw [← hH] at hP
  have hS : va_S A s.heap H locs := by rw [hH, hlo]; exact va_S.rf
  have hgo : W p l e (zR 2 0 0) s m ([.ref (ad 0), .int lit] : List Value).toArray below meth c H locs 0 0 (MQ below (zQm G (mOK ((mf_paints m_at lit).2) Wd R nr nc) (some (.int (nI ((mf_paints m_at lit).1)))) (mW G ad m_status m_top m_bottom m_taped m_size m_token m_from m_end m_value m_faultKind m_faultPlace m_faults m_seen m_depth m_counted m_lead m_round m_tried m_triedMany m_drawn m_ranSteps m_isTold m_marks ((mf_paints m_at lit).2) m_names m_sort m_trayMany m_trays m_tape m_text m_opened m_beside m_then m_ways m_further m_canBe m_loops m_ran m_told0) A) ([.ref (ad 0), .int lit] : List Value).toArray s 0 0 A) (F0 m 0 ls []) := ?_
  · rw [hH, hlo] at hgo; exact hgo
  clear hH hlo
  have hWR := mOK_WR hG
  have hW0 := mOK_W0 hG
  have hW5 := mOK_W5 hG
  have hR0 := mOK_R0 hG
  have hR6 := mOK_R6 hG
  have hn4 := mOK_n4 hG
  have hc6 := mOK_c6 hG
  refine lv_aload_n hx hb dX7_paints_0 rfl (lv_at hl 0 rfl) ?_
  refine va_get (D := G.1) (ci := 7) (v := .ref (ad 1)) (C := RX7) (T := TX7) (N := 39) hx hb hts in_X7 hown hK.1 hP 0 rfl rfl 0 (Nat.le_of_ble_eq_true rfl) (hts _ q1467) (fun _ h => h) rfl dX7_paints_1 ?_
  refine lv_iconst (v := 3) hx hb dX7_paints_4 (by decide) ?_
  refine lv_aload_n hx hb dX7_paints_5 rfl (lv_at hl 0 rfl) ?_
  refine va_get (D := G.1) (ci := 7) (v := .ref (ad 1)) (C := RX7) (T := TX7) (N := 39) hx hb hts in_X7 hown hK.1 hP 0 rfl rfl 0 (Nat.le_of_ble_eq_true rfl) (hts _ q1467) (fun _ h => h) rfl dX7_paints_6 ?_
  refine lv_iconst (v := 3) hx hb dX7_paints_9 (by decide) ?_
  refine zr_iald 3 (v := m_at 3) hx hb hK hP 1 rfl rfl (Nat.le_of_ble_eq_true rfl) rfl (by decide) rfl dX7_paints_10 ?_
  refine lv_aload_n hx hb dX7_paints_11 rfl (lv_at hl 0 rfl) ?_
  refine va_get (D := G.1) (ci := 7) (v := .ref (ad 1)) (C := RX7) (T := TX7) (N := 39) hx hb hts in_X7 hown hK.1 hP 0 rfl rfl 0 (Nat.le_of_ble_eq_true rfl) (hts _ q1467) (fun _ h => h) rfl dX7_paints_12 ?_
  refine lv_iconst (v := 4) hx hb dX7_paints_15 (by decide) ?_
  refine zr_iald 4 (v := m_at 4) hx hb hK hP 1 rfl rfl (Nat.le_of_ble_eq_true rfl) rfl (by decide) rfl dX7_paints_16 ?_
  refine lv_iand hx hb dX7_paints_17 ?_
  refine lv_iload_n hx hb dX7_paints_18 rfl (lv_at hl 1 rfl) ?_
  refine lv_aload_n hx hb dX7_paints_19 rfl (lv_at hl 0 rfl) ?_
  refine zr_obV ⟨hx, hb, hml, hown, hts⟩ (mt_mf_free l G ad m_status m_top m_bottom m_taped m_size m_token m_from m_end m_value m_faultKind m_faultPlace m_faults m_seen m_depth m_counted m_lead m_round m_tried m_triedMany m_drawn m_ranSteps m_isTold m_marks m_at m_names m_sort m_trayMany m_trays m_tape m_text m_opened m_beside m_then m_ways m_further m_canBe m_loops m_ran m_told0) (cwV 0 hts (lw_V q1855 q1857 qs102 q144 q1858) rfl rfl rfl hd_X7_free ⟨(Nat.le_of_ble_eq_true rfl), (Nat.le_of_ble_eq_true rfl)⟩) hP hK (zE_o hE hS) 0 7 rfl rfl rfl hl.1 rfl (Nat.le_of_ble_eq_true rfl) dX7_paints_20 ⟨Nat.le_refl _, Nat.le_refl _⟩ ?_
  refine lv_iand hx hb dX7_paints_23 ?_
  refine lv_ior hx hb dX7_paints_24 ?_
  refine zr_iast 3 (ws' := (mW G ad m_status m_top m_bottom m_taped m_size m_token m_from m_end m_value m_faultKind m_faultPlace m_faults m_seen m_depth m_counted m_lead m_round m_tried m_triedMany m_drawn m_ranSteps m_isTold m_marks (upd m_at 3 (((m_at 3) &&& (m_at 4)) ||| (lit &&& (mf_free m_at)))) m_names m_sort m_trayMany m_trays m_tape m_text m_opened m_beside m_then m_ways m_further m_canBe m_loops m_ran m_told0)) hx hb hK hP hD hS 1 rfl rfl (Nat.le_of_ble_eq_true rfl) rfl (by decide) rfl dX7_paints_25 (fun H locs hP hD hS => ?_)
  refine lv_aload_n hx hb dX7_paints_26 rfl (lv_at hl 0 rfl) ?_
  refine va_get (D := G.1) (ci := 7) (v := .ref (ad 1)) (C := RX7) (T := TX7) (N := 39) hx hb hts in_X7 hown hK.1 hP 0 rfl rfl 0 (Nat.le_of_ble_eq_true rfl) (hts _ q1467) (fun _ h => h) rfl dX7_paints_27 ?_
  refine lv_iconst (v := 3) hx hb dX7_paints_30 (by decide) ?_
  refine zr_iald 3 (v := ((m_at 3) &&& (m_at 4)) ||| (lit &&& (mf_free m_at))) hx hb hK hP 1 rfl rfl (Nat.le_of_ble_eq_true rfl) rfl (by decide) rfl dX7_paints_31 ?_
  refine zr_puS ⟨hx, hb, hml, hown, hts⟩ (mt_bitsN l (((m_at 3) &&& (m_at 4)) ||| (lit &&& (mf_free m_at)))) (va_cwS 1 hts (lw_S q1744 q1745 q144 q1746) rfl rfl rfl hd_X7_bits.2 ⟨(Nat.le_of_ble_eq_true rfl), (Nat.le_of_ble_eq_true rfl)⟩) rfl hl.1 rfl (Nat.le_of_ble_eq_true rfl) dX7_paints_32 ⟨Nat.le_refl _, Nat.le_refl _⟩ ?_
  have e_ : mf_paints m_at lit = (zpc (((m_at 3) &&& (m_at 4)) ||| (lit &&& (mf_free m_at))), upd m_at 3 (((m_at 3) &&& (m_at 4)) ||| (lit &&& (mf_free m_at)))) := by rw [mf_paints]
  exact zr_mi hx hb hr hlocks hP hD hS dX7_paints_35 (by rw [e_])  (by rw [e_]) (by rw [e_]; exact (mOK_u hG (by omega)))
def mf_paint (m_at : Nat → Int32) (pic : Int64) : Int32 × Int32 × (Nat → Int32) :=
  (if (mf_isFrom pic 0 1073741823) = true then
    zlet (mf_paints m_at pic.toInt32) (fun t_3 =>
    (nI t_3.1, 0, t_3.2))
  else
    ((-1), 1, m_at))
theorem hd_X7_paint : yX7_paint.cls = RX7 ∧ yX7_paint.cls ≠ "java/lang/invoke/MethodHandle" ∧ yX7_paint.cls ≠ "java/lang/invoke/VarHandle" ∧ (parseMethodDescriptor yX7_paint.desc).map (fun d => d.parameters.length) = some 1 := by decide +kernel
set_option maxHeartbeats 4000000 in
set_option maxRecDepth 100000 in
theorem mt_mf_paint (l : Launch) (G : zG) (ad : Nat → Nat) (m_status : Int32) (m_top : Int64) (m_bottom : Int64) (m_taped : Int32) (m_size : Int32) (m_token : Int32) (m_from : Int32) (m_end : Int32) (m_value : Int32) (m_faultKind : Int32) (m_faultPlace : Int32) (m_faults : Int32) (m_seen : Int32) (m_depth : Int32) (m_counted : Int32) (m_lead : Int32) (m_round : Int32) (m_tried : Int32) (m_triedMany : Int32) (m_drawn : Int32) (m_ranSteps : Int32) (m_isTold : Bool) (m_marks : Int32) (m_at : Nat → Int32) (m_names : Nat → Int64) (m_sort : Nat → Int32) (m_trayMany : Nat → Int32) (m_trays : Nat → Int64) (m_tape : Nat → Int32) (m_text : Nat → Int32) (m_opened : Nat → Int32) (m_beside : Nat → Int32) (m_then : Nat → Int32) (m_ways : Nat → Int64) (m_further : Nat → Int64) (m_canBe : Nat → Int32) (m_loops : Nat → Int32) (m_ran : Nat → Int32) (m_told0 : Nat → Int32) (Wd : Nat) (R : Nat) (nr : Nat) (nc : Nat) (pic : Int64) (hG : mOK m_at Wd R nr nc) (sz : Nat) : Met l yX7_paint (ws_ yX7_paint cX7_paint 3 (some .int)) (zR 3 0 0) (zPm G sz [.ref (ad 0), .long pic] (mW G ad m_status m_top m_bottom m_taped m_size m_token m_from m_end m_value m_faultKind m_faultPlace m_faults m_seen m_depth m_counted m_lead m_round m_tried m_triedMany m_drawn m_ranSteps m_isTold m_marks m_at m_names m_sort m_trayMany m_trays m_tape m_text m_opened m_beside m_then m_ways m_further m_canBe m_loops m_ran m_told0)) (zQm G (mOK ((mf_paint m_at pic).2.2) Wd R nr nc) (some (.int ((mf_paint m_at pic).1))) (mW G ad ((mf_paint m_at pic).2.1) m_top m_bottom m_taped m_size m_token m_from m_end m_value m_faultKind m_faultPlace m_faults m_seen m_depth m_counted m_lead m_round m_tried m_triedMany m_drawn m_ranSteps m_isTold m_marks ((mf_paint m_at pic).2.2) m_names m_sort m_trayMany m_trays m_tape m_text m_opened m_beside m_then m_ways m_further m_canBe m_loops m_ran m_told0) (va_A (mW G ad m_status m_top m_bottom m_taped m_size m_token m_from m_end m_value m_faultKind m_faultPlace m_faults m_seen m_depth m_counted m_lead m_round m_tried m_triedMany m_drawn m_ranSteps m_isTold m_marks m_at m_names m_sort m_trayMany m_trays m_tape m_text m_opened m_beside m_then m_ways m_further m_canBe m_loops m_ran m_told0) sz)) 0 0 (va_A (mW G ad m_status m_top m_bottom m_taped m_size m_token m_from m_end m_value m_faultKind m_faultPlace m_faults m_seen m_depth m_counted m_lead m_round m_tried m_triedMany m_drawn m_ranSteps m_isTold m_marks m_at m_names m_sort m_trayMany m_trays m_tape m_text m_opened m_beside m_then m_ways m_further m_canBe m_loops m_ran m_told0) sz) := by
  refine zr_entM (by decide) (Nat.le_of_ble_eq_true rfl) ?_
  intro p e s m below meth c ⟨hx, hb, hr, hml, hown, hts, hlocks, hnm⟩ ls hl hP hK A hE hA hD hS
  have hown : s.vm.findClass RX7 = some m.cls := hown
  have hl : lv_has ls 3 [(0, .ref (ad 0)), (1, .long pic)] := hl
  obtain ⟨H, hH⟩ : ∃ H, H = s.heap := ⟨_, rfl⟩
  obtain ⟨locs, hlo⟩ : ∃ L : List Loc, L = [] := ⟨_, rfl⟩
  rw [← hH] at hP
  have hS : va_S A s.heap H locs := by rw [hH, hlo]; exact va_S.rf
  have hgo : W p l e (zR 3 0 0) s m ([.ref (ad 0), .long pic] : List Value).toArray below meth c H locs 0 0 (MQ below (zQm G (mOK ((mf_paint m_at pic).2.2) Wd R nr nc) (some (.int ((mf_paint m_at pic).1))) (mW G ad ((mf_paint m_at pic).2.1) m_top m_bottom m_taped m_size m_token m_from m_end m_value m_faultKind m_faultPlace m_faults m_seen m_depth m_counted m_lead m_round m_tried m_triedMany m_drawn m_ranSteps m_isTold m_marks ((mf_paint m_at pic).2.2) m_names m_sort m_trayMany m_trays m_tape m_text m_opened m_beside m_then m_ways m_further m_canBe m_loops m_ran m_told0) A) ([.ref (ad 0), .long pic] : List Value).toArray s 0 0 A) (F0 m 0 ls []) := ?_
  · rw [hH, hlo] at hgo; exact hgo
  clear hH hlo
  have hWR := mOK_WR hG
  have hW0 := mOK_W0 hG
  have hW5 := mOK_W5 hG
  have hR0 := mOK_R0 hG
  have hR6 := mOK_R6 hG
  have hn4 := mOK_n4 hG
  have hc6 := mOK_c6 hG
  refine lv_lload_n hx hb dX7_paint_0 rfl (lv_at hl 1 rfl) ?_
  refine lv_lconst (v := 0) hx hb dX7_paint_1 rfl ?_
  refine lv_ldc2 (v := 1073741823) hx hb hown (hts _ q1847) dX7_paint_2 ?_
  refine zr_puS ⟨hx, hb, hml, hown, hts⟩ (mt_mf_isFrom l pic 0 1073741823) (va_cwS 3 hts (lw_S q1848 q1849 q144 q1850) rfl rfl rfl hd_X7_isFrom.2 ⟨(Nat.le_of_ble_eq_true rfl), (Nat.le_of_ble_eq_true rfl)⟩) rfl hl.1 rfl (Nat.le_of_ble_eq_true rfl) dX7_paint_5 ⟨Nat.le_refl _, Nat.le_refl _⟩ ?_
  refine zr_eqB (mf_isFrom pic 0 1073741823) (tgt := 24) hx hb dX7_paint_8 (by decide) (fun c_1 => ?_) (fun c_1 => ?_)
  · refine lv_aload_n hx hb dX7_paint_24 rfl (lv_at hl 0 rfl) ?_
    refine lv_iconst (v := 1) hx hb dX7_paint_25 (by decide) ?_
    refine zr_muV (F := ()) (ff := fun _ => True) (rr := fun _ => some (.int (-1))) (w1 := fun _ => (mW G ad 1 m_top m_bottom m_taped m_size m_token m_from m_end m_value m_faultKind m_faultPlace m_faults m_seen m_depth m_counted m_lead m_round m_tried m_triedMany m_drawn m_ranSteps m_isTold m_marks m_at m_names m_sort m_trayMany m_trays m_tape m_text m_opened m_beside m_then m_ways m_further m_canBe m_loops m_ran m_told0)) ⟨hx, hb, hml, hown, hts⟩ (mt_mf_refuse l G ad m_status m_top m_bottom m_taped m_size m_token m_from m_end m_value m_faultKind m_faultPlace m_faults m_seen m_depth m_counted m_lead m_round m_tried m_triedMany m_drawn m_ranSteps m_isTold m_marks m_at m_names m_sort m_trayMany m_trays m_tape m_text m_opened m_beside m_then m_ways m_further m_canBe m_loops m_ran m_told0 1 H.size) (cwV 1 hts (lw_V q1666 q1668 qs66 q144 q1669) rfl rfl rfl hd_X7_refuse ⟨(Nat.le_of_ble_eq_true rfl), (Nat.le_of_ble_eq_true rfl)⟩) hP hD hS hA hK hE 0 7 rfl rfl rfl hl.1 rfl (Nat.le_of_ble_eq_true rfl) dX7_paint_26 ⟨Nat.le_refl _, Nat.le_refl _⟩ (fun _ _ _ H locs hP hD hS _ => ?_)
    refine W.eq (g2 := F0 m 29 ls [.int (-1)]) rfl ?_
    have e_ : mf_paint m_at pic = ((-1), 1, m_at) := by rw [mf_paint, if_neg c_1]
    exact zr_mi hx hb hr hlocks hP hD hS dX7_paint_29 (by rw [e_])  (by rw [e_]) (by rw [e_]; exact hG)
  · refine lv_aload_n hx hb dX7_paint_11 rfl (lv_at hl 0 rfl) ?_
    refine lv_aload_n hx hb dX7_paint_12 rfl (lv_at hl 0 rfl) ?_
    refine lv_lload_n hx hb dX7_paint_13 rfl (lv_at hl 1 rfl) ?_
    refine lv_l2i hx hb dX7_paint_14 rfl ?_
    refine zr_muV (F := mf_paints m_at pic.toInt32) (ff := fun t_3 => mOK t_3.2 Wd R nr nc) (rr := fun t_3 => some (.int (nI t_3.1))) (w1 := fun t_3 => (mW G ad m_status m_top m_bottom m_taped m_size m_token m_from m_end m_value m_faultKind m_faultPlace m_faults m_seen m_depth m_counted m_lead m_round m_tried m_triedMany m_drawn m_ranSteps m_isTold m_marks t_3.2 m_names m_sort m_trayMany m_trays m_tape m_text m_opened m_beside m_then m_ways m_further m_canBe m_loops m_ran m_told0)) ⟨hx, hb, hml, hown, hts⟩ (mt_mf_paints l G ad m_status m_top m_bottom m_taped m_size m_token m_from m_end m_value m_faultKind m_faultPlace m_faults m_seen m_depth m_counted m_lead m_round m_tried m_triedMany m_drawn m_ranSteps m_isTold m_marks m_at m_names m_sort m_trayMany m_trays m_tape m_text m_opened m_beside m_then m_ways m_further m_canBe m_loops m_ran m_told0 Wd R nr nc pic.toInt32 hG H.size) (cwV 1 hts (lw_V q1851 q1853 qs101 q144 q1854) rfl rfl rfl hd_X7_paints ⟨(Nat.le_of_ble_eq_true rfl), (Nat.le_of_ble_eq_true rfl)⟩) hP hD hS hA hK hE 0 7 rfl rfl rfl hl.1 rfl (Nat.le_of_ble_eq_true rfl) dX7_paint_15 ⟨Nat.le_refl _, Nat.le_refl _⟩ (fun t_3 ht_3 hft_3 H locs hP hD hS _ => ?_)
    refine W.eq (g2 := F0 m 18 ls [.int (nI t_3.1), .ref (ad 0)]) rfl ?_
    have ok_m_at_t_3 := hft_3
    refine zr_muV (F := ()) (ff := fun _ => True) (rr := fun _ => some (.int (nI t_3.1))) (w1 := fun _ => (mW G ad 0 m_top m_bottom m_taped m_size m_token m_from m_end m_value m_faultKind m_faultPlace m_faults m_seen m_depth m_counted m_lead m_round m_tried m_triedMany m_drawn m_ranSteps m_isTold m_marks t_3.2 m_names m_sort m_trayMany m_trays m_tape m_text m_opened m_beside m_then m_ways m_further m_canBe m_loops m_ran m_told0)) ⟨hx, hb, hml, hown, hts⟩ (mt_mf_gives l G ad m_status m_top m_bottom m_taped m_size m_token m_from m_end m_value m_faultKind m_faultPlace m_faults m_seen m_depth m_counted m_lead m_round m_tried m_triedMany m_drawn m_ranSteps m_isTold m_marks t_3.2 m_names m_sort m_trayMany m_trays m_tape m_text m_opened m_beside m_then m_ways m_further m_canBe m_loops m_ran m_told0 (nI t_3.1) H.size) (cwV 1 hts (lw_V q1751 q1753 qs85 q144 q1754) rfl rfl rfl hd_X7_gives ⟨(Nat.le_of_ble_eq_true rfl), (Nat.le_of_ble_eq_true rfl)⟩) hP hD hS hA hK hE 0 7 rfl rfl rfl hl.1 rfl (Nat.le_of_ble_eq_true rfl) dX7_paint_18 ⟨Nat.le_refl _, Nat.le_refl _⟩ (fun _ _ _ H locs hP hD hS _ => ?_)
    refine W.eq (g2 := F0 m 21 ls [.int (nI t_3.1)]) rfl ?_
    refine lv_goto (tgt := 29) hx hb dX7_paint_21 (by decide) ?_
    have e_ : mf_paint m_at pic = (nI t_3.1, 0, t_3.2) := by rw [mf_paint, if_pos c_1, zlet_eq ht_3]
    exact zr_mi hx hb hr hlocks hP hD hS dX7_paint_29 (by rw [e_])  (by rw [e_]) (by rw [e_]; exact ok_m_at_t_3)
def mf_rowOf (Wd : Nat) (lit : Int32) (y : Int32) : Int32 :=
  ((lit >>> (((nI Wd) * y) &&& 31)) &&& (((1 : Int32) <<< ((nI Wd) &&& 31)) - 1))
theorem hd_X7_rowOf : yX7_rowOf.cls = RX7 ∧ yX7_rowOf.cls ≠ "java/lang/invoke/MethodHandle" ∧ yX7_rowOf.cls ≠ "java/lang/invoke/VarHandle" ∧ (parseMethodDescriptor yX7_rowOf.desc).map (fun d => d.parameters.length) = some 2 := by decide +kernel
set_option maxHeartbeats 4000000 in
set_option maxRecDepth 100000 in
theorem mt_mf_rowOf (l : Launch) (G : zG) (ad : Nat → Nat) (m_status : Int32) (m_top : Int64) (m_bottom : Int64) (m_taped : Int32) (m_size : Int32) (m_token : Int32) (m_from : Int32) (m_end : Int32) (m_value : Int32) (m_faultKind : Int32) (m_faultPlace : Int32) (m_faults : Int32) (m_seen : Int32) (m_depth : Int32) (m_counted : Int32) (m_lead : Int32) (m_round : Int32) (m_tried : Int32) (m_triedMany : Int32) (m_drawn : Int32) (m_ranSteps : Int32) (m_isTold : Bool) (m_marks : Int32) (m_at : Nat → Int32) (m_names : Nat → Int64) (m_sort : Nat → Int32) (m_trayMany : Nat → Int32) (m_trays : Nat → Int64) (m_tape : Nat → Int32) (m_text : Nat → Int32) (m_opened : Nat → Int32) (m_beside : Nat → Int32) (m_then : Nat → Int32) (m_ways : Nat → Int64) (m_further : Nat → Int64) (m_canBe : Nat → Int32) (m_loops : Nat → Int32) (m_ran : Nat → Int32) (m_told0 : Nat → Int32) (Wd : Nat) (R : Nat) (nr : Nat) (nc : Nat) (lit : Int32) (y : Int32) (hG : mOK m_at Wd R nr nc) : Met l yX7_rowOf (ws_ yX7_rowOf cX7_rowOf 3 (some .int)) (zR 1 0 0) (zPo G [.ref (ad 0), .int lit, .int y] (mW G ad m_status m_top m_bottom m_taped m_size m_token m_from m_end m_value m_faultKind m_faultPlace m_faults m_seen m_depth m_counted m_lead m_round m_tried m_triedMany m_drawn m_ranSteps m_isTold m_marks m_at m_names m_sort m_trayMany m_trays m_tape m_text m_opened m_beside m_then m_ways m_further m_canBe m_loops m_ran m_told0)) (k2_QcV (.int (mf_rowOf Wd lit y))) 0 0 (fun _ => False) := by
  refine zr_entO (by decide) (Nat.le_of_ble_eq_true rfl) ?_
  intro p e s m below meth c ⟨hx, hb, hr, hml, hown, hts, hlocks, hnm⟩ ls hl hP hK hE
  have hown : s.vm.findClass RX7 = some m.cls := hown
  have hl : lv_has ls 3 [(0, .ref (ad 0)), (1, .int lit), (2, .int y)] := hl
  have hWR := mOK_WR hG
  have hW0 := mOK_W0 hG
  have hW5 := mOK_W5 hG
  have hR0 := mOK_R0 hG
  have hR6 := mOK_R6 hG
  have hn4 := mOK_n4 hG
  have hc6 := mOK_c6 hG
  refine lv_iload_n hx hb dX7_rowOf_0 rfl (lv_at hl 1 rfl) ?_
  refine lv_aload_n hx hb dX7_rowOf_1 rfl (lv_at hl 0 rfl) ?_
  refine va_get (D := G.1) (ci := 7) (v := .ref (ad 1)) (C := RX7) (T := TX7) (N := 39) hx hb hts in_X7 hown hK.1 hP 0 rfl rfl 0 (Nat.le_of_ble_eq_true rfl) (hts _ q1467) (fun _ h => h) rfl dX7_rowOf_2 ?_
  refine lv_iconst (v := 0) hx hb dX7_rowOf_5 (by decide) ?_
  refine zr_iald 0 (v := nI Wd) hx hb hK hP 1 rfl rfl (Nat.le_of_ble_eq_true rfl) rfl (by decide) (mOK_w hG) dX7_rowOf_6 ?_
  refine lv_iload_n hx hb dX7_rowOf_7 rfl (lv_at hl 2 rfl) ?_
  refine lv_imul hx hb dX7_rowOf_8 ?_
  refine lv_ishr hx hb dX7_rowOf_9 ?_
  refine lv_iconst (v := 1) hx hb dX7_rowOf_10 (by decide) ?_
  refine lv_aload_n hx hb dX7_rowOf_11 rfl (lv_at hl 0 rfl) ?_
  refine va_get (D := G.1) (ci := 7) (v := .ref (ad 1)) (C := RX7) (T := TX7) (N := 39) hx hb hts in_X7 hown hK.1 hP 0 rfl rfl 0 (Nat.le_of_ble_eq_true rfl) (hts _ q1467) (fun _ h => h) rfl dX7_rowOf_12 ?_
  refine lv_iconst (v := 0) hx hb dX7_rowOf_15 (by decide) ?_
  refine zr_iald 0 (v := nI Wd) hx hb hK hP 1 rfl rfl (Nat.le_of_ble_eq_true rfl) rfl (by decide) (mOK_w hG) dX7_rowOf_16 ?_
  refine lv_ishl hx hb dX7_rowOf_17 ?_
  refine lv_iconst (v := 1) hx hb dX7_rowOf_18 (by decide) ?_
  refine lv_isub hx hb dX7_rowOf_19 ?_
  refine lv_iand hx hb dX7_rowOf_20 ?_
  have e_ : mf_rowOf Wd lit y = (lit >>> (((nI Wd) * y) &&& 31)) &&& (((1 : Int32) <<< ((nI Wd) &&& 31)) - 1) := by rw [mf_rowOf]
  exact zr_oi hx hb hr hlocks dX7_rowOf_21 (congrArg Value.int e_)
def mf_paintRows_B54 (m_at : Nat → Int32) (m_trays : Nat → Int64) (Wd : Nat) (R : Nat) (tray : Int32) (s_4 : Nat × Int32) : (Nat × Int32) ⊕ ((Nat × Int32) ⊕ (Int32 × Int32 × (Nat → Int32))) :=
  (if R ≤ s_4.1 then
    .inr (.inl (s_4.1, s_4.2))
  else
    (if (mf_isFrom (m_trays (60 * tray.toNatClampNeg + s_4.1)) 0 31) = true then
      .inl (s_4.1 + 1, s_4.2 ||| ((((m_trays (60 * tray.toNatClampNeg + s_4.1)).toInt32) &&& (((1 : Int32) <<< ((nI Wd) &&& 31)) - 1)) <<< ((nI (Wd * s_4.1)) &&& 31)))
    else
      .inr (.inr ((-1), 5, m_at))))
def mf_paintRows_L54 (m_at : Nat → Int32) (m_trays : Nat → Int64) (Wd : Nat) (R : Nat) (tray : Int32) (s_4 : Nat × Int32) : (Nat × Int32) ⊕ (Int32 × Int32 × (Nat → Int32)) := zw (mf_paintRows_B54 m_at m_trays Wd R tray) (.inl s_4) ((R - s_4.1) + 1) s_4
def mf_paintRows (m_at : Nat → Int32) (m_trayMany : Nat → Int32) (m_trays : Nat → Int64) (Wd : Nat) (R : Nat) (tray : Int32) : Int32 × Int32 × (Nat → Int32) :=
  (if (mf_isTray tray) = true then
    (if (m_trayMany tray.toNatClampNeg) = (-1) then
      ((-1), 2, m_at)
    else
      (if (nI R) ≤ (m_trayMany tray.toNatClampNeg) then
        zcase (mf_paintRows_L54 m_at m_trays Wd R tray (0, 0)) (fun t_4 =>
        zlet (mf_paints m_at t_4.2) (fun t_8 =>
        (nI t_8.1, 0, t_8.2))) (fun r => r)
      else
        ((-1), 3, m_at)))
  else
    ((-1), 1, m_at))
theorem hd_X7_paintRows : yX7_paintRows.cls = RX7 ∧ yX7_paintRows.cls ≠ "java/lang/invoke/MethodHandle" ∧ yX7_paintRows.cls ≠ "java/lang/invoke/VarHandle" ∧ (parseMethodDescriptor yX7_paintRows.desc).map (fun d => d.parameters.length) = some 1 := by decide +kernel
set_option maxHeartbeats 4000000 in
set_option maxRecDepth 100000 in
theorem mt_mf_paintRows (l : Launch) (G : zG) (ad : Nat → Nat) (m_status : Int32) (m_top : Int64) (m_bottom : Int64) (m_taped : Int32) (m_size : Int32) (m_token : Int32) (m_from : Int32) (m_end : Int32) (m_value : Int32) (m_faultKind : Int32) (m_faultPlace : Int32) (m_faults : Int32) (m_seen : Int32) (m_depth : Int32) (m_counted : Int32) (m_lead : Int32) (m_round : Int32) (m_tried : Int32) (m_triedMany : Int32) (m_drawn : Int32) (m_ranSteps : Int32) (m_isTold : Bool) (m_marks : Int32) (m_at : Nat → Int32) (m_names : Nat → Int64) (m_sort : Nat → Int32) (m_trayMany : Nat → Int32) (m_trays : Nat → Int64) (m_tape : Nat → Int32) (m_text : Nat → Int32) (m_opened : Nat → Int32) (m_beside : Nat → Int32) (m_then : Nat → Int32) (m_ways : Nat → Int64) (m_further : Nat → Int64) (m_canBe : Nat → Int32) (m_loops : Nat → Int32) (m_ran : Nat → Int32) (m_told0 : Nat → Int32) (Wd : Nat) (R : Nat) (nr : Nat) (nc : Nat) (tray : Int32) (hG : mOK m_at Wd R nr nc) (hT : mTR m_trayMany) (sz : Nat) : Met l yX7_paintRows (ws_ yX7_paintRows cX7_paintRows 4 (some .int)) (zR 3 0 0) (zPm G sz [.ref (ad 0), .int tray] (mW G ad m_status m_top m_bottom m_taped m_size m_token m_from m_end m_value m_faultKind m_faultPlace m_faults m_seen m_depth m_counted m_lead m_round m_tried m_triedMany m_drawn m_ranSteps m_isTold m_marks m_at m_names m_sort m_trayMany m_trays m_tape m_text m_opened m_beside m_then m_ways m_further m_canBe m_loops m_ran m_told0)) (zQm G (mOK ((mf_paintRows m_at m_trayMany m_trays Wd R tray).2.2) Wd R nr nc) (some (.int ((mf_paintRows m_at m_trayMany m_trays Wd R tray).1))) (mW G ad ((mf_paintRows m_at m_trayMany m_trays Wd R tray).2.1) m_top m_bottom m_taped m_size m_token m_from m_end m_value m_faultKind m_faultPlace m_faults m_seen m_depth m_counted m_lead m_round m_tried m_triedMany m_drawn m_ranSteps m_isTold m_marks ((mf_paintRows m_at m_trayMany m_trays Wd R tray).2.2) m_names m_sort m_trayMany m_trays m_tape m_text m_opened m_beside m_then m_ways m_further m_canBe m_loops m_ran m_told0) (va_A (mW G ad m_status m_top m_bottom m_taped m_size m_token m_from m_end m_value m_faultKind m_faultPlace m_faults m_seen m_depth m_counted m_lead m_round m_tried m_triedMany m_drawn m_ranSteps m_isTold m_marks m_at m_names m_sort m_trayMany m_trays m_tape m_text m_opened m_beside m_then m_ways m_further m_canBe m_loops m_ran m_told0) sz)) 0 0 (va_A (mW G ad m_status m_top m_bottom m_taped m_size m_token m_from m_end m_value m_faultKind m_faultPlace m_faults m_seen m_depth m_counted m_lead m_round m_tried m_triedMany m_drawn m_ranSteps m_isTold m_marks m_at m_names m_sort m_trayMany m_trays m_tape m_text m_opened m_beside m_then m_ways m_further m_canBe m_loops m_ran m_told0) sz) := by
  refine zr_entM (by decide) (Nat.le_of_ble_eq_true rfl) ?_
  intro p e s m below meth c ⟨hx, hb, hr, hml, hown, hts, hlocks, hnm⟩ ls hl hP hK A hE hA hD hS
  have hown : s.vm.findClass RX7 = some m.cls := hown
  have hl : lv_has ls 4 [(0, .ref (ad 0)), (1, .int tray)] := hl
  obtain ⟨H, hH⟩ : ∃ H, H = s.heap := ⟨_, rfl⟩
  obtain ⟨locs, hlo⟩ : ∃ L : List Loc, L = [] := ⟨_, rfl⟩
  rw [← hH] at hP
  have hS : va_S A s.heap H locs := by rw [hH, hlo]; exact va_S.rf
  have hgo : W p l e (zR 3 0 0) s m ([.ref (ad 0), .int tray] : List Value).toArray below meth c H locs 0 0 (MQ below (zQm G (mOK ((mf_paintRows m_at m_trayMany m_trays Wd R tray).2.2) Wd R nr nc) (some (.int ((mf_paintRows m_at m_trayMany m_trays Wd R tray).1))) (mW G ad ((mf_paintRows m_at m_trayMany m_trays Wd R tray).2.1) m_top m_bottom m_taped m_size m_token m_from m_end m_value m_faultKind m_faultPlace m_faults m_seen m_depth m_counted m_lead m_round m_tried m_triedMany m_drawn m_ranSteps m_isTold m_marks ((mf_paintRows m_at m_trayMany m_trays Wd R tray).2.2) m_names m_sort m_trayMany m_trays m_tape m_text m_opened m_beside m_then m_ways m_further m_canBe m_loops m_ran m_told0) A) ([.ref (ad 0), .int tray] : List Value).toArray s 0 0 A) (F0 m 0 ls []) := ?_
  · rw [hH, hlo] at hgo; exact hgo
  clear hH hlo
  have hWR := mOK_WR hG
  have hW0 := mOK_W0 hG
  have hW5 := mOK_W5 hG
  have hR0 := mOK_R0 hG
  have hR6 := mOK_R6 hG
  have hn4 := mOK_n4 hG
  have hc6 := mOK_c6 hG
  refine lv_iload_n hx hb dX7_paintRows_0 rfl (lv_at hl 1 rfl) ?_
  refine zr_puS ⟨hx, hb, hml, hown, hts⟩ (mt_mf_isTray l tray) (va_cwS 1 hts (lw_S q1601 q1602 q144 q1603) rfl rfl rfl hd_X7_isTray.2 ⟨(Nat.le_of_ble_eq_true rfl), (Nat.le_of_ble_eq_true rfl)⟩) rfl hl.1 rfl (Nat.le_of_ble_eq_true rfl) dX7_paintRows_1 ⟨Nat.le_refl _, Nat.le_refl _⟩ ?_
  refine zr_neB (mf_isTray tray) (tgt := 13) hx hb dX7_paintRows_4 (by decide) (fun c_1 => ?_) (fun c_1 => ?_)
  · obtain ⟨hz0, hz1⟩ := isTray_t c_1
    refine lv_aload_n hx hb dX7_paintRows_13 rfl (lv_at hl 0 rfl) ?_
    refine va_get (D := G.1) (ci := 7) (v := .ref (ad 4)) (C := RX7) (T := TX7) (N := 39) hx hb hts in_X7 hown hK.1 hP 0 rfl rfl 6 (Nat.le_of_ble_eq_true rfl) (hts _ q1473) (fun _ h => h) rfl dX7_paintRows_14 ?_
    refine lv_iload_n hx hb dX7_paintRows_17 rfl (lv_at hl 1 rfl) ?_
    refine zr_iald tray.toNatClampNeg (v := m_trayMany tray.toNatClampNeg) hx hb hK hP 4 rfl rfl (Nat.le_of_ble_eq_true rfl) (z_nn hz0) (by omega) rfl dX7_paintRows_18 ?_
    refine lv_iconst (v := (-1)) hx hb dX7_paintRows_19 (by decide) ?_
    refine lv_icmp_ne (tgt := 29) hx hb dX7_paintRows_20 (by decide) (fun c_2 => ?_) (fun c_2 => ?_)
    · have htn := (hT _ hz1).resolve_left c_2
      refine lv_aload_n hx hb dX7_paintRows_29 rfl (lv_at hl 0 rfl) ?_
      refine va_get (D := G.1) (ci := 7) (v := .ref (ad 4)) (C := RX7) (T := TX7) (N := 39) hx hb hts in_X7 hown hK.1 hP 0 rfl rfl 6 (Nat.le_of_ble_eq_true rfl) (hts _ q1473) (fun _ h => h) rfl dX7_paintRows_30 ?_
      refine lv_iload_n hx hb dX7_paintRows_33 rfl (lv_at hl 1 rfl) ?_
      refine zr_iald tray.toNatClampNeg (v := m_trayMany tray.toNatClampNeg) hx hb hK hP 4 rfl rfl (Nat.le_of_ble_eq_true rfl) (z_nn hz0) (by omega) rfl dX7_paintRows_34 ?_
      refine lv_aload_n hx hb dX7_paintRows_35 rfl (lv_at hl 0 rfl) ?_
      refine va_get (D := G.1) (ci := 7) (v := .ref (ad 1)) (C := RX7) (T := TX7) (N := 39) hx hb hts in_X7 hown hK.1 hP 0 rfl rfl 0 (Nat.le_of_ble_eq_true rfl) (hts _ q1467) (fun _ h => h) rfl dX7_paintRows_36 ?_
      refine lv_iconst (v := 1) hx hb dX7_paintRows_39 (by decide) ?_
      refine zr_iald 1 (v := nI R) hx hb hK hP 1 rfl rfl (Nat.le_of_ble_eq_true rfl) rfl (by decide) (mOK_r hG) dX7_paintRows_40 ?_
      refine lv_icmp_ge (tgt := 50) hx hb dX7_paintRows_41 (by decide) (fun c_3 => ?_) (fun c_3 => ?_)
      · refine lv_iconst (v := 0) hx hb dX7_paintRows_50 (by decide) ?_
        refine lv_istore_n (lv' := [(2, .int 0), (0, .ref (ad 0)), (1, .int tray)]) hx hb dX7_paintRows_51 rfl hl (by decide) rfl (fun ls hl => ?_)
        refine lv_iconst (v := 0) hx hb dX7_paintRows_52 (by decide) ?_
        refine lv_istore_n (lv' := [(3, .int 0), (2, .int 0), (0, .ref (ad 0)), (1, .int tray)]) hx hb dX7_paintRows_53 rfl hl (by decide) rfl (fun ls hl => ?_)
        have hx_4 : ∀ t_4 : Nat × Int32, mf_paintRows_L54 m_at m_trays Wd R tray (0, 0) = .inl t_4 → ∀ (H : Heap) (locs : List Loc), va_P G.1 zcl (mW G ad m_status m_top m_bottom m_taped m_size m_token m_from m_end m_value m_faultKind m_faultPlace m_faults m_seen m_depth m_counted m_lead m_round m_tried m_triedMany m_drawn m_ranSteps m_isTold m_marks m_at m_names m_sort m_trayMany m_trays m_tape m_text m_opened m_beside m_then m_ways m_further m_canBe m_loops m_ran m_told0) H → va_D A (mW G ad m_status m_top m_bottom m_taped m_size m_token m_from m_end m_value m_faultKind m_faultPlace m_faults m_seen m_depth m_counted m_lead m_round m_tried m_triedMany m_drawn m_ranSteps m_isTold m_marks m_at m_names m_sort m_trayMany m_trays m_tape m_text m_opened m_beside m_then m_ways m_further m_canBe m_loops m_ran m_told0) → va_S A s.heap H locs → ∀ ls : Array Slot, lv_has ls 4 [(2, .int t_4.2), (0, .ref (ad 0))] → W p l e (zR 3 0 0) s m ([.ref (ad 0), .int tray] : List Value).toArray below meth c H locs 0 0 (MQ below (zQm G (mOK ((mf_paintRows m_at m_trayMany m_trays Wd R tray).2.2) Wd R nr nc) (some (.int ((mf_paintRows m_at m_trayMany m_trays Wd R tray).1))) (mW G ad ((mf_paintRows m_at m_trayMany m_trays Wd R tray).2.1) m_top m_bottom m_taped m_size m_token m_from m_end m_value m_faultKind m_faultPlace m_faults m_seen m_depth m_counted m_lead m_round m_tried m_triedMany m_drawn m_ranSteps m_isTold m_marks ((mf_paintRows m_at m_trayMany m_trays Wd R tray).2.2) m_names m_sort m_trayMany m_trays m_tape m_text m_opened m_beside m_then m_ways m_further m_canBe m_loops m_ran m_told0) A) ([.ref (ad 0), .int tray] : List Value).toArray s 0 0 A) (F0 m 132 ls []) := by
          intro t_4 ht_4 H locs hP hD hS ls hl
          refine lv_aload_n hx hb dX7_paintRows_132 rfl (lv_at hl 1 rfl) ?_
          refine lv_aload_n hx hb dX7_paintRows_133 rfl (lv_at hl 1 rfl) ?_
          refine lv_iload_n hx hb dX7_paintRows_134 rfl (lv_at hl 0 rfl) ?_
          refine zr_muV (F := mf_paints m_at t_4.2) (ff := fun t_8 => mOK t_8.2 Wd R nr nc) (rr := fun t_8 => some (.int (nI t_8.1))) (w1 := fun t_8 => (mW G ad m_status m_top m_bottom m_taped m_size m_token m_from m_end m_value m_faultKind m_faultPlace m_faults m_seen m_depth m_counted m_lead m_round m_tried m_triedMany m_drawn m_ranSteps m_isTold m_marks t_8.2 m_names m_sort m_trayMany m_trays m_tape m_text m_opened m_beside m_then m_ways m_further m_canBe m_loops m_ran m_told0)) ⟨hx, hb, hml, hown, hts⟩ (mt_mf_paints l G ad m_status m_top m_bottom m_taped m_size m_token m_from m_end m_value m_faultKind m_faultPlace m_faults m_seen m_depth m_counted m_lead m_round m_tried m_triedMany m_drawn m_ranSteps m_isTold m_marks m_at m_names m_sort m_trayMany m_trays m_tape m_text m_opened m_beside m_then m_ways m_further m_canBe m_loops m_ran m_told0 Wd R nr nc t_4.2 hG H.size) (cwV 1 hts (lw_V q1851 q1853 qs101 q144 q1854) rfl rfl rfl hd_X7_paints ⟨(Nat.le_of_ble_eq_true rfl), (Nat.le_of_ble_eq_true rfl)⟩) hP hD hS hA hK hE 0 7 rfl rfl rfl hl.1 rfl (Nat.le_of_ble_eq_true rfl) dX7_paintRows_135 ⟨Nat.le_refl _, Nat.le_refl _⟩ (fun t_8 ht_8 hft_8 H locs hP hD hS _ => ?_)
          refine W.eq (g2 := F0 m 138 ls [.int (nI t_8.1), .ref (ad 0)]) rfl ?_
          have ok_m_at_t_8 := hft_8
          refine zr_muV (F := ()) (ff := fun _ => True) (rr := fun _ => some (.int (nI t_8.1))) (w1 := fun _ => (mW G ad 0 m_top m_bottom m_taped m_size m_token m_from m_end m_value m_faultKind m_faultPlace m_faults m_seen m_depth m_counted m_lead m_round m_tried m_triedMany m_drawn m_ranSteps m_isTold m_marks t_8.2 m_names m_sort m_trayMany m_trays m_tape m_text m_opened m_beside m_then m_ways m_further m_canBe m_loops m_ran m_told0)) ⟨hx, hb, hml, hown, hts⟩ (mt_mf_gives l G ad m_status m_top m_bottom m_taped m_size m_token m_from m_end m_value m_faultKind m_faultPlace m_faults m_seen m_depth m_counted m_lead m_round m_tried m_triedMany m_drawn m_ranSteps m_isTold m_marks t_8.2 m_names m_sort m_trayMany m_trays m_tape m_text m_opened m_beside m_then m_ways m_further m_canBe m_loops m_ran m_told0 (nI t_8.1) H.size) (cwV 1 hts (lw_V q1751 q1753 qs85 q144 q1754) rfl rfl rfl hd_X7_gives ⟨(Nat.le_of_ble_eq_true rfl), (Nat.le_of_ble_eq_true rfl)⟩) hP hD hS hA hK hE 0 7 rfl rfl rfl hl.1 rfl (Nat.le_of_ble_eq_true rfl) dX7_paintRows_138 ⟨Nat.le_refl _, Nat.le_refl _⟩ (fun _ _ _ H locs hP hD hS _ => ?_)
          refine W.eq (g2 := F0 m 141 ls [.int (nI t_8.1)]) rfl ?_
          have e_ : mf_paintRows m_at m_trayMany m_trays Wd R tray = (nI t_8.1, 0, t_8.2) := by rw [mf_paintRows, if_pos c_1, if_neg c_2, if_pos c_3, zcase_l ht_4, zlet_eq ht_8]
          exact zr_mi hx hb hr hlocks hP hD hS dX7_paintRows_141 (by rw [e_])  (by rw [e_]) (by rw [e_]; exact ok_m_at_t_8)
        have hlp_4 : ∀ (n : Nat) (s_4 : Nat × Int32), R - s_4.1 < n → zw (mf_paintRows_B54 m_at m_trays Wd R tray) (.inl (0, 0)) n s_4 = mf_paintRows_L54 m_at m_trays Wd R tray (0, 0) → s_4.1 ≤ R → ∀ (H : Heap) (locs : List Loc), va_P G.1 zcl (mW G ad m_status m_top m_bottom m_taped m_size m_token m_from m_end m_value m_faultKind m_faultPlace m_faults m_seen m_depth m_counted m_lead m_round m_tried m_triedMany m_drawn m_ranSteps m_isTold m_marks m_at m_names m_sort m_trayMany m_trays m_tape m_text m_opened m_beside m_then m_ways m_further m_canBe m_loops m_ran m_told0) H → va_D A (mW G ad m_status m_top m_bottom m_taped m_size m_token m_from m_end m_value m_faultKind m_faultPlace m_faults m_seen m_depth m_counted m_lead m_round m_tried m_triedMany m_drawn m_ranSteps m_isTold m_marks m_at m_names m_sort m_trayMany m_trays m_tape m_text m_opened m_beside m_then m_ways m_further m_canBe m_loops m_ran m_told0) → va_S A s.heap H locs → ∀ ls : Array Slot, lv_has ls 4 [(3, .int (nI s_4.1)), (2, .int s_4.2), (0, .ref (ad 0)), (1, .int tray)] → W p l e (zR 3 0 0) s m ([.ref (ad 0), .int tray] : List Value).toArray below meth c H locs 0 0 (MQ below (zQm G (mOK ((mf_paintRows m_at m_trayMany m_trays Wd R tray).2.2) Wd R nr nc) (some (.int ((mf_paintRows m_at m_trayMany m_trays Wd R tray).1))) (mW G ad ((mf_paintRows m_at m_trayMany m_trays Wd R tray).2.1) m_top m_bottom m_taped m_size m_token m_from m_end m_value m_faultKind m_faultPlace m_faults m_seen m_depth m_counted m_lead m_round m_tried m_triedMany m_drawn m_ranSteps m_isTold m_marks ((mf_paintRows m_at m_trayMany m_trays Wd R tray).2.2) m_names m_sort m_trayMany m_trays m_tape m_text m_opened m_beside m_then m_ways m_further m_canBe m_loops m_ran m_told0) A) ([.ref (ad 0), .int tray] : List Value).toArray s 0 0 A) (F0 m 54 ls []) := by
          intro n
          induction n with
          | zero => exact fun _ h => absurd h (Nat.not_lt_zero _)
          | succ n ih_4 =>
            intro s_4 hmu_4 hR_4 hi3 H locs hP hD hS ls hl
            refine lv_iload_n hx hb dX7_paintRows_54 rfl (lv_at hl 0 rfl) ?_
            refine lv_aload_n hx hb dX7_paintRows_55 rfl (lv_at hl 2 rfl) ?_
            refine va_get (D := G.1) (ci := 7) (v := .ref (ad 1)) (C := RX7) (T := TX7) (N := 39) hx hb hts in_X7 hown hK.1 hP 0 rfl rfl 0 (Nat.le_of_ble_eq_true rfl) (hts _ q1467) (fun _ h => h) rfl dX7_paintRows_56 ?_
            refine lv_iconst (v := 1) hx hb dX7_paintRows_59 (by decide) ?_
            refine zr_iald 1 (v := nI R) hx hb hK hP 1 rfl rfl (Nat.le_of_ble_eq_true rfl) rfl (by decide) (mOK_r hG) dX7_paintRows_60 ?_
            refine zr_ge s_4.1 R (by omega) (by omega) (tgt := 132) hx hb dX7_paintRows_61 (by decide) (fun c_5 => ?_) (fun c_5 => ?_)
            · exact hx_4 (s_4.1, s_4.2) (hR_4.symm.trans (zw_r (by rw [mf_paintRows_B54, if_pos c_5]))) H locs hP hD hS ls (lv_sub hl [1, 2] rfl)
            · refine lv_aload_n hx hb dX7_paintRows_64 rfl (lv_at hl 2 rfl) ?_
              refine va_get (D := G.1) (ci := 7) (v := .ref (ad 5)) (C := RX7) (T := TX7) (N := 39) hx hb hts in_X7 hown hK.1 hP 0 rfl rfl 7 (Nat.le_of_ble_eq_true rfl) (hts _ q1474) (fun _ h => h) rfl dX7_paintRows_65 ?_
              refine lv_bipush (v := 60) hx hb dX7_paintRows_68 (by decide) ?_
              refine lv_iload_n hx hb dX7_paintRows_70 rfl (lv_at hl 3 rfl) ?_
              refine zr_val (congrArg Value.int (z_nn hz0)) ?_
              refine W.eq (g2 := F0 m 71 ls [.int (nI tray.toNatClampNeg), .int 60, .ref (ad 5)]) rfl ?_
              refine zr_imulN 60 tray.toNatClampNeg hx hb dX7_paintRows_71 ?_
              refine lv_iload_n hx hb dX7_paintRows_72 rfl (lv_at hl 0 rfl) ?_
              refine zr_iaddN (60 * tray.toNatClampNeg) s_4.1 hx hb dX7_paintRows_73 ?_
              refine zr_val (v' := .int (nI (60 * tray.toNatClampNeg + s_4.1))) (by rfl) ?_
              refine zr_lald (60 * tray.toNatClampNeg + s_4.1) (v := m_trays (60 * tray.toNatClampNeg + s_4.1)) hx hb hK hP 5 rfl rfl (Nat.le_of_ble_eq_true rfl) rfl (by omega) rfl dX7_paintRows_74 ?_
              refine lv_lconst (v := 0) hx hb dX7_paintRows_75 rfl ?_
              refine lv_ldc2 (v := 31) hx hb hown (hts _ q1863) dX7_paintRows_76 ?_
              refine zr_puS ⟨hx, hb, hml, hown, hts⟩ (mt_mf_isFrom l (m_trays (60 * tray.toNatClampNeg + s_4.1)) 0 31) (va_cwS 3 hts (lw_S q1848 q1849 q144 q1850) rfl rfl rfl hd_X7_isFrom.2 ⟨(Nat.le_of_ble_eq_true rfl), (Nat.le_of_ble_eq_true rfl)⟩) rfl hl.1 rfl (Nat.le_of_ble_eq_true rfl) dX7_paintRows_79 ⟨Nat.le_refl _, Nat.le_refl _⟩ ?_
              refine zr_neB (mf_isFrom (m_trays (60 * tray.toNatClampNeg + s_4.1)) 0 31) (tgt := 91) hx hb dX7_paintRows_82 (by decide) (fun c_6 => ?_) (fun c_6 => ?_)
              · refine lv_iload_n hx hb dX7_paintRows_91 rfl (lv_at hl 1 rfl) ?_
                refine lv_aload_n hx hb dX7_paintRows_92 rfl (lv_at hl 2 rfl) ?_
                refine va_get (D := G.1) (ci := 7) (v := .ref (ad 5)) (C := RX7) (T := TX7) (N := 39) hx hb hts in_X7 hown hK.1 hP 0 rfl rfl 7 (Nat.le_of_ble_eq_true rfl) (hts _ q1474) (fun _ h => h) rfl dX7_paintRows_93 ?_
                refine lv_bipush (v := 60) hx hb dX7_paintRows_96 (by decide) ?_
                refine lv_iload_n hx hb dX7_paintRows_98 rfl (lv_at hl 3 rfl) ?_
                refine zr_val (congrArg Value.int (z_nn hz0)) ?_
                refine W.eq (g2 := F0 m 99 ls [.int (nI tray.toNatClampNeg), .int 60, .ref (ad 5), .int s_4.2]) rfl ?_
                refine zr_imulN 60 tray.toNatClampNeg hx hb dX7_paintRows_99 ?_
                refine lv_iload_n hx hb dX7_paintRows_100 rfl (lv_at hl 0 rfl) ?_
                refine zr_iaddN (60 * tray.toNatClampNeg) s_4.1 hx hb dX7_paintRows_101 ?_
                refine zr_val (v' := .int (nI (60 * tray.toNatClampNeg + s_4.1))) (by rfl) ?_
                refine zr_lald (60 * tray.toNatClampNeg + s_4.1) (v := m_trays (60 * tray.toNatClampNeg + s_4.1)) hx hb hK hP 5 rfl rfl (Nat.le_of_ble_eq_true rfl) rfl (by omega) rfl dX7_paintRows_102 ?_
                refine lv_l2i hx hb dX7_paintRows_103 rfl ?_
                refine lv_iconst (v := 1) hx hb dX7_paintRows_104 (by decide) ?_
                refine lv_aload_n hx hb dX7_paintRows_105 rfl (lv_at hl 2 rfl) ?_
                refine va_get (D := G.1) (ci := 7) (v := .ref (ad 1)) (C := RX7) (T := TX7) (N := 39) hx hb hts in_X7 hown hK.1 hP 0 rfl rfl 0 (Nat.le_of_ble_eq_true rfl) (hts _ q1467) (fun _ h => h) rfl dX7_paintRows_106 ?_
                refine lv_iconst (v := 0) hx hb dX7_paintRows_109 (by decide) ?_
                refine zr_iald 0 (v := nI Wd) hx hb hK hP 1 rfl rfl (Nat.le_of_ble_eq_true rfl) rfl (by decide) (mOK_w hG) dX7_paintRows_110 ?_
                refine lv_ishl hx hb dX7_paintRows_111 ?_
                refine lv_iconst (v := 1) hx hb dX7_paintRows_112 (by decide) ?_
                refine lv_isub hx hb dX7_paintRows_113 ?_
                refine lv_iand hx hb dX7_paintRows_114 ?_
                refine lv_aload_n hx hb dX7_paintRows_115 rfl (lv_at hl 2 rfl) ?_
                refine va_get (D := G.1) (ci := 7) (v := .ref (ad 1)) (C := RX7) (T := TX7) (N := 39) hx hb hts in_X7 hown hK.1 hP 0 rfl rfl 0 (Nat.le_of_ble_eq_true rfl) (hts _ q1467) (fun _ h => h) rfl dX7_paintRows_116 ?_
                refine lv_iconst (v := 0) hx hb dX7_paintRows_119 (by decide) ?_
                refine zr_iald 0 (v := nI Wd) hx hb hK hP 1 rfl rfl (Nat.le_of_ble_eq_true rfl) rfl (by decide) (mOK_w hG) dX7_paintRows_120 ?_
                refine lv_iload_n hx hb dX7_paintRows_121 rfl (lv_at hl 0 rfl) ?_
                refine zr_imulN Wd s_4.1 hx hb dX7_paintRows_122 ?_
                refine lv_ishl hx hb dX7_paintRows_123 ?_
                refine lv_ior hx hb dX7_paintRows_124 ?_
                refine lv_istore_n (lv' := [(2, .int (s_4.2 ||| ((((m_trays (60 * tray.toNatClampNeg + s_4.1)).toInt32) &&& (((1 : Int32) <<< ((nI Wd) &&& 31)) - 1)) <<< ((nI (Wd * s_4.1)) &&& 31)))), (3, .int (nI s_4.1)), (0, .ref (ad 0)), (1, .int tray)]) hx hb dX7_paintRows_125 rfl hl (by decide) rfl (fun ls hl => ?_)
                refine lv_iinc (v := nI (s_4.1 + 1)) (lv' := [(3, .int (nI (s_4.1 + 1))), (2, .int (s_4.2 ||| ((((m_trays (60 * tray.toNatClampNeg + s_4.1)).toInt32) &&& (((1 : Int32) <<< ((nI Wd) &&& 31)) - 1)) <<< ((nI (Wd * s_4.1)) &&& 31)))), (0, .ref (ad 0)), (1, .int tray)]) hx hb dX7_paintRows_126 hl (k := 1) rfl (nI_add s_4.1 1) (by decide) rfl (fun ls hl => ?_)
                refine lv_goto (tgt := 54) hx hb dX7_paintRows_129 (by decide) ?_
                exact ih_4 (s_4.1 + 1, s_4.2 ||| ((((m_trays (60 * tray.toNatClampNeg + s_4.1)).toInt32) &&& (((1 : Int32) <<< ((nI Wd) &&& 31)) - 1)) <<< ((nI (Wd * s_4.1)) &&& 31))) (by omega) ((zw_l (by rw [mf_paintRows_B54, if_neg c_5, if_pos c_6])).symm.trans hR_4) (by omega) H locs hP hD hS ls (lv_sub hl [0, 1, 2, 3] rfl)
              · refine lv_aload_n hx hb dX7_paintRows_85 rfl (lv_at hl 2 rfl) ?_
                refine lv_iconst (v := 5) hx hb dX7_paintRows_86 (by decide) ?_
                refine zr_muV (F := ()) (ff := fun _ => True) (rr := fun _ => some (.int (-1))) (w1 := fun _ => (mW G ad 5 m_top m_bottom m_taped m_size m_token m_from m_end m_value m_faultKind m_faultPlace m_faults m_seen m_depth m_counted m_lead m_round m_tried m_triedMany m_drawn m_ranSteps m_isTold m_marks m_at m_names m_sort m_trayMany m_trays m_tape m_text m_opened m_beside m_then m_ways m_further m_canBe m_loops m_ran m_told0)) ⟨hx, hb, hml, hown, hts⟩ (mt_mf_refuse l G ad m_status m_top m_bottom m_taped m_size m_token m_from m_end m_value m_faultKind m_faultPlace m_faults m_seen m_depth m_counted m_lead m_round m_tried m_triedMany m_drawn m_ranSteps m_isTold m_marks m_at m_names m_sort m_trayMany m_trays m_tape m_text m_opened m_beside m_then m_ways m_further m_canBe m_loops m_ran m_told0 5 H.size) (cwV 1 hts (lw_V q1666 q1668 qs66 q144 q1669) rfl rfl rfl hd_X7_refuse ⟨(Nat.le_of_ble_eq_true rfl), (Nat.le_of_ble_eq_true rfl)⟩) hP hD hS hA hK hE 0 7 rfl rfl rfl hl.1 rfl (Nat.le_of_ble_eq_true rfl) dX7_paintRows_87 ⟨Nat.le_refl _, Nat.le_refl _⟩ (fun _ _ _ H locs hP hD hS _ => ?_)
                refine W.eq (g2 := F0 m 90 ls [.int (-1)]) rfl ?_
                have hr_4 : mf_paintRows_L54 m_at m_trays Wd R tray (0, 0) = .inr ((-1), 5, m_at) := hR_4.symm.trans (zw_r (by rw [mf_paintRows_B54, if_neg c_5, if_neg c_6]))
                have e_ : mf_paintRows m_at m_trayMany m_trays Wd R tray = ((-1), 5, m_at) := by rw [mf_paintRows, if_pos c_1, if_neg c_2, if_pos c_3, zcase_r hr_4]
                exact zr_mi hx hb hr hlocks hP hD hS dX7_paintRows_90 (by rw [e_])  (by rw [e_]) (by rw [e_]; exact hG)
        exact hlp_4 _ (0, 0) (Nat.lt_succ_self _) (by rw [mf_paintRows_L54]) (by omega) H locs hP hD hS ls (lv_sub hl [0, 1, 2, 3] rfl)
      · refine lv_aload_n hx hb dX7_paintRows_44 rfl (lv_at hl 0 rfl) ?_
        refine lv_iconst (v := 3) hx hb dX7_paintRows_45 (by decide) ?_
        refine zr_muV (F := ()) (ff := fun _ => True) (rr := fun _ => some (.int (-1))) (w1 := fun _ => (mW G ad 3 m_top m_bottom m_taped m_size m_token m_from m_end m_value m_faultKind m_faultPlace m_faults m_seen m_depth m_counted m_lead m_round m_tried m_triedMany m_drawn m_ranSteps m_isTold m_marks m_at m_names m_sort m_trayMany m_trays m_tape m_text m_opened m_beside m_then m_ways m_further m_canBe m_loops m_ran m_told0)) ⟨hx, hb, hml, hown, hts⟩ (mt_mf_refuse l G ad m_status m_top m_bottom m_taped m_size m_token m_from m_end m_value m_faultKind m_faultPlace m_faults m_seen m_depth m_counted m_lead m_round m_tried m_triedMany m_drawn m_ranSteps m_isTold m_marks m_at m_names m_sort m_trayMany m_trays m_tape m_text m_opened m_beside m_then m_ways m_further m_canBe m_loops m_ran m_told0 3 H.size) (cwV 1 hts (lw_V q1666 q1668 qs66 q144 q1669) rfl rfl rfl hd_X7_refuse ⟨(Nat.le_of_ble_eq_true rfl), (Nat.le_of_ble_eq_true rfl)⟩) hP hD hS hA hK hE 0 7 rfl rfl rfl hl.1 rfl (Nat.le_of_ble_eq_true rfl) dX7_paintRows_46 ⟨Nat.le_refl _, Nat.le_refl _⟩ (fun _ _ _ H locs hP hD hS _ => ?_)
        refine W.eq (g2 := F0 m 49 ls [.int (-1)]) rfl ?_
        have e_ : mf_paintRows m_at m_trayMany m_trays Wd R tray = ((-1), 3, m_at) := by rw [mf_paintRows, if_pos c_1, if_neg c_2, if_neg c_3]
        exact zr_mi hx hb hr hlocks hP hD hS dX7_paintRows_49 (by rw [e_])  (by rw [e_]) (by rw [e_]; exact hG)
    · refine lv_aload_n hx hb dX7_paintRows_23 rfl (lv_at hl 0 rfl) ?_
      refine lv_iconst (v := 2) hx hb dX7_paintRows_24 (by decide) ?_
      refine zr_muV (F := ()) (ff := fun _ => True) (rr := fun _ => some (.int (-1))) (w1 := fun _ => (mW G ad 2 m_top m_bottom m_taped m_size m_token m_from m_end m_value m_faultKind m_faultPlace m_faults m_seen m_depth m_counted m_lead m_round m_tried m_triedMany m_drawn m_ranSteps m_isTold m_marks m_at m_names m_sort m_trayMany m_trays m_tape m_text m_opened m_beside m_then m_ways m_further m_canBe m_loops m_ran m_told0)) ⟨hx, hb, hml, hown, hts⟩ (mt_mf_refuse l G ad m_status m_top m_bottom m_taped m_size m_token m_from m_end m_value m_faultKind m_faultPlace m_faults m_seen m_depth m_counted m_lead m_round m_tried m_triedMany m_drawn m_ranSteps m_isTold m_marks m_at m_names m_sort m_trayMany m_trays m_tape m_text m_opened m_beside m_then m_ways m_further m_canBe m_loops m_ran m_told0 2 H.size) (cwV 1 hts (lw_V q1666 q1668 qs66 q144 q1669) rfl rfl rfl hd_X7_refuse ⟨(Nat.le_of_ble_eq_true rfl), (Nat.le_of_ble_eq_true rfl)⟩) hP hD hS hA hK hE 0 7 rfl rfl rfl hl.1 rfl (Nat.le_of_ble_eq_true rfl) dX7_paintRows_25 ⟨Nat.le_refl _, Nat.le_refl _⟩ (fun _ _ _ H locs hP hD hS _ => ?_)
      refine W.eq (g2 := F0 m 28 ls [.int (-1)]) rfl ?_
      have e_ : mf_paintRows m_at m_trayMany m_trays Wd R tray = ((-1), 2, m_at) := by rw [mf_paintRows, if_pos c_1, if_pos c_2]
      exact zr_mi hx hb hr hlocks hP hD hS dX7_paintRows_28 (by rw [e_])  (by rw [e_]) (by rw [e_]; exact hG)
  · refine lv_aload_n hx hb dX7_paintRows_7 rfl (lv_at hl 0 rfl) ?_
    refine lv_iconst (v := 1) hx hb dX7_paintRows_8 (by decide) ?_
    refine zr_muV (F := ()) (ff := fun _ => True) (rr := fun _ => some (.int (-1))) (w1 := fun _ => (mW G ad 1 m_top m_bottom m_taped m_size m_token m_from m_end m_value m_faultKind m_faultPlace m_faults m_seen m_depth m_counted m_lead m_round m_tried m_triedMany m_drawn m_ranSteps m_isTold m_marks m_at m_names m_sort m_trayMany m_trays m_tape m_text m_opened m_beside m_then m_ways m_further m_canBe m_loops m_ran m_told0)) ⟨hx, hb, hml, hown, hts⟩ (mt_mf_refuse l G ad m_status m_top m_bottom m_taped m_size m_token m_from m_end m_value m_faultKind m_faultPlace m_faults m_seen m_depth m_counted m_lead m_round m_tried m_triedMany m_drawn m_ranSteps m_isTold m_marks m_at m_names m_sort m_trayMany m_trays m_tape m_text m_opened m_beside m_then m_ways m_further m_canBe m_loops m_ran m_told0 1 H.size) (cwV 1 hts (lw_V q1666 q1668 qs66 q144 q1669) rfl rfl rfl hd_X7_refuse ⟨(Nat.le_of_ble_eq_true rfl), (Nat.le_of_ble_eq_true rfl)⟩) hP hD hS hA hK hE 0 7 rfl rfl rfl hl.1 rfl (Nat.le_of_ble_eq_true rfl) dX7_paintRows_9 ⟨Nat.le_refl _, Nat.le_refl _⟩ (fun _ _ _ H locs hP hD hS _ => ?_)
    refine W.eq (g2 := F0 m 12 ls [.int (-1)]) rfl ?_
    have e_ : mf_paintRows m_at m_trayMany m_trays Wd R tray = ((-1), 1, m_at) := by rw [mf_paintRows, if_neg c_1]
    exact zr_mi hx hb hr hlocks hP hD hS dX7_paintRows_12 (by rw [e_])  (by rw [e_]) (by rw [e_]; exact hG)
def mf_copyRows_B52 (m_at : Nat → Int32) (Wd : Nat) (R : Nat) (tray : Int32) (k_4 : Nat) (s_4 : (Nat → Int64)) : (Nat → Int64) :=
  vp_updL s_4 (60 * tray.toNatClampNeg + k_4) ((mf_rowOf Wd (m_at 3) (nI k_4)).toInt64)
def mf_copyRows_L52 (m_at : Nat → Int32) (Wd : Nat) (R : Nat) (tray : Int32) (s_4 : (Nat → Int64)) : (Nat → Int64) := zf (mf_copyRows_B52 m_at Wd R tray) s_4 R
def mf_copyRows (m_at : Nat → Int32) (m_trayMany : Nat → Int32) (m_trays : Nat → Int64) (Wd : Nat) (R : Nat) (tray : Int32) : Int32 × Int32 × (Nat → Int64) :=
  (if (mf_isTray tray) = true then
    (if (m_trayMany tray.toNatClampNeg) = (-1) then
      ((-1), 2, m_trays)
    else
      (if (nI R) ≤ (m_trayMany tray.toNatClampNeg) then
        zlet (mf_copyRows_L52 m_at Wd R tray m_trays) (fun s_4 =>
        (nI R, 0, s_4))
      else
        ((-1), 3, m_trays)))
  else
    ((-1), 1, m_trays))
theorem hd_X7_copyRows : yX7_copyRows.cls = RX7 ∧ yX7_copyRows.cls ≠ "java/lang/invoke/MethodHandle" ∧ yX7_copyRows.cls ≠ "java/lang/invoke/VarHandle" ∧ (parseMethodDescriptor yX7_copyRows.desc).map (fun d => d.parameters.length) = some 1 := by decide +kernel
set_option maxHeartbeats 4000000 in
set_option maxRecDepth 100000 in
theorem mt_mf_copyRows (l : Launch) (G : zG) (ad : Nat → Nat) (m_status : Int32) (m_top : Int64) (m_bottom : Int64) (m_taped : Int32) (m_size : Int32) (m_token : Int32) (m_from : Int32) (m_end : Int32) (m_value : Int32) (m_faultKind : Int32) (m_faultPlace : Int32) (m_faults : Int32) (m_seen : Int32) (m_depth : Int32) (m_counted : Int32) (m_lead : Int32) (m_round : Int32) (m_tried : Int32) (m_triedMany : Int32) (m_drawn : Int32) (m_ranSteps : Int32) (m_isTold : Bool) (m_marks : Int32) (m_at : Nat → Int32) (m_names : Nat → Int64) (m_sort : Nat → Int32) (m_trayMany : Nat → Int32) (m_trays : Nat → Int64) (m_tape : Nat → Int32) (m_text : Nat → Int32) (m_opened : Nat → Int32) (m_beside : Nat → Int32) (m_then : Nat → Int32) (m_ways : Nat → Int64) (m_further : Nat → Int64) (m_canBe : Nat → Int32) (m_loops : Nat → Int32) (m_ran : Nat → Int32) (m_told0 : Nat → Int32) (Wd : Nat) (R : Nat) (nr : Nat) (nc : Nat) (tray : Int32) (hG : mOK m_at Wd R nr nc) (hT : mTR m_trayMany) (sz : Nat) : Met l yX7_copyRows (ws_ yX7_copyRows cX7_copyRows 3 (some .int)) (zR 2 0 0) (zPm G sz [.ref (ad 0), .int tray] (mW G ad m_status m_top m_bottom m_taped m_size m_token m_from m_end m_value m_faultKind m_faultPlace m_faults m_seen m_depth m_counted m_lead m_round m_tried m_triedMany m_drawn m_ranSteps m_isTold m_marks m_at m_names m_sort m_trayMany m_trays m_tape m_text m_opened m_beside m_then m_ways m_further m_canBe m_loops m_ran m_told0)) (zQm G (True) (some (.int ((mf_copyRows m_at m_trayMany m_trays Wd R tray).1))) (mW G ad ((mf_copyRows m_at m_trayMany m_trays Wd R tray).2.1) m_top m_bottom m_taped m_size m_token m_from m_end m_value m_faultKind m_faultPlace m_faults m_seen m_depth m_counted m_lead m_round m_tried m_triedMany m_drawn m_ranSteps m_isTold m_marks m_at m_names m_sort m_trayMany ((mf_copyRows m_at m_trayMany m_trays Wd R tray).2.2) m_tape m_text m_opened m_beside m_then m_ways m_further m_canBe m_loops m_ran m_told0) (va_A (mW G ad m_status m_top m_bottom m_taped m_size m_token m_from m_end m_value m_faultKind m_faultPlace m_faults m_seen m_depth m_counted m_lead m_round m_tried m_triedMany m_drawn m_ranSteps m_isTold m_marks m_at m_names m_sort m_trayMany m_trays m_tape m_text m_opened m_beside m_then m_ways m_further m_canBe m_loops m_ran m_told0) sz)) 0 0 (va_A (mW G ad m_status m_top m_bottom m_taped m_size m_token m_from m_end m_value m_faultKind m_faultPlace m_faults m_seen m_depth m_counted m_lead m_round m_tried m_triedMany m_drawn m_ranSteps m_isTold m_marks m_at m_names m_sort m_trayMany m_trays m_tape m_text m_opened m_beside m_then m_ways m_further m_canBe m_loops m_ran m_told0) sz) := by
  refine zr_entM (by decide) (Nat.le_of_ble_eq_true rfl) ?_
  intro p e s m below meth c ⟨hx, hb, hr, hml, hown, hts, hlocks, hnm⟩ ls hl hP hK A hE hA hD hS
  have hown : s.vm.findClass RX7 = some m.cls := hown
  have hl : lv_has ls 3 [(0, .ref (ad 0)), (1, .int tray)] := hl
  obtain ⟨H, hH⟩ : ∃ H, H = s.heap := ⟨_, rfl⟩
  obtain ⟨locs, hlo⟩ : ∃ L : List Loc, L = [] := ⟨_, rfl⟩
  rw [← hH] at hP
  have hS : va_S A s.heap H locs := by rw [hH, hlo]; exact va_S.rf
  have hgo : W p l e (zR 2 0 0) s m ([.ref (ad 0), .int tray] : List Value).toArray below meth c H locs 0 0 (MQ below (zQm G (True) (some (.int ((mf_copyRows m_at m_trayMany m_trays Wd R tray).1))) (mW G ad ((mf_copyRows m_at m_trayMany m_trays Wd R tray).2.1) m_top m_bottom m_taped m_size m_token m_from m_end m_value m_faultKind m_faultPlace m_faults m_seen m_depth m_counted m_lead m_round m_tried m_triedMany m_drawn m_ranSteps m_isTold m_marks m_at m_names m_sort m_trayMany ((mf_copyRows m_at m_trayMany m_trays Wd R tray).2.2) m_tape m_text m_opened m_beside m_then m_ways m_further m_canBe m_loops m_ran m_told0) A) ([.ref (ad 0), .int tray] : List Value).toArray s 0 0 A) (F0 m 0 ls []) := ?_
  · rw [hH, hlo] at hgo; exact hgo
  clear hH hlo
  have hWR := mOK_WR hG
  have hW0 := mOK_W0 hG
  have hW5 := mOK_W5 hG
  have hR0 := mOK_R0 hG
  have hR6 := mOK_R6 hG
  have hn4 := mOK_n4 hG
  have hc6 := mOK_c6 hG
  refine lv_iload_n hx hb dX7_copyRows_0 rfl (lv_at hl 1 rfl) ?_
  refine zr_puS ⟨hx, hb, hml, hown, hts⟩ (mt_mf_isTray l tray) (va_cwS 1 hts (lw_S q1601 q1602 q144 q1603) rfl rfl rfl hd_X7_isTray.2 ⟨(Nat.le_of_ble_eq_true rfl), (Nat.le_of_ble_eq_true rfl)⟩) rfl hl.1 rfl (Nat.le_of_ble_eq_true rfl) dX7_copyRows_1 ⟨Nat.le_refl _, Nat.le_refl _⟩ ?_
  refine zr_neB (mf_isTray tray) (tgt := 13) hx hb dX7_copyRows_4 (by decide) (fun c_1 => ?_) (fun c_1 => ?_)
  · obtain ⟨hz0, hz1⟩ := isTray_t c_1
    refine lv_aload_n hx hb dX7_copyRows_13 rfl (lv_at hl 0 rfl) ?_
    refine va_get (D := G.1) (ci := 7) (v := .ref (ad 4)) (C := RX7) (T := TX7) (N := 39) hx hb hts in_X7 hown hK.1 hP 0 rfl rfl 6 (Nat.le_of_ble_eq_true rfl) (hts _ q1473) (fun _ h => h) rfl dX7_copyRows_14 ?_
    refine lv_iload_n hx hb dX7_copyRows_17 rfl (lv_at hl 1 rfl) ?_
    refine zr_iald tray.toNatClampNeg (v := m_trayMany tray.toNatClampNeg) hx hb hK hP 4 rfl rfl (Nat.le_of_ble_eq_true rfl) (z_nn hz0) (by omega) rfl dX7_copyRows_18 ?_
    refine lv_iconst (v := (-1)) hx hb dX7_copyRows_19 (by decide) ?_
    refine lv_icmp_ne (tgt := 29) hx hb dX7_copyRows_20 (by decide) (fun c_2 => ?_) (fun c_2 => ?_)
    · have htn := (hT _ hz1).resolve_left c_2
      refine lv_aload_n hx hb dX7_copyRows_29 rfl (lv_at hl 0 rfl) ?_
      refine va_get (D := G.1) (ci := 7) (v := .ref (ad 4)) (C := RX7) (T := TX7) (N := 39) hx hb hts in_X7 hown hK.1 hP 0 rfl rfl 6 (Nat.le_of_ble_eq_true rfl) (hts _ q1473) (fun _ h => h) rfl dX7_copyRows_30 ?_
      refine lv_iload_n hx hb dX7_copyRows_33 rfl (lv_at hl 1 rfl) ?_
      refine zr_iald tray.toNatClampNeg (v := m_trayMany tray.toNatClampNeg) hx hb hK hP 4 rfl rfl (Nat.le_of_ble_eq_true rfl) (z_nn hz0) (by omega) rfl dX7_copyRows_34 ?_
      refine lv_aload_n hx hb dX7_copyRows_35 rfl (lv_at hl 0 rfl) ?_
      refine va_get (D := G.1) (ci := 7) (v := .ref (ad 1)) (C := RX7) (T := TX7) (N := 39) hx hb hts in_X7 hown hK.1 hP 0 rfl rfl 0 (Nat.le_of_ble_eq_true rfl) (hts _ q1467) (fun _ h => h) rfl dX7_copyRows_36 ?_
      refine lv_iconst (v := 1) hx hb dX7_copyRows_39 (by decide) ?_
      refine zr_iald 1 (v := nI R) hx hb hK hP 1 rfl rfl (Nat.le_of_ble_eq_true rfl) rfl (by decide) (mOK_r hG) dX7_copyRows_40 ?_
      refine lv_icmp_ge (tgt := 50) hx hb dX7_copyRows_41 (by decide) (fun c_3 => ?_) (fun c_3 => ?_)
      · refine lv_iconst (v := 0) hx hb dX7_copyRows_50 (by decide) ?_
        refine lv_istore_n (lv' := [(2, .int 0), (0, .ref (ad 0)), (1, .int tray)]) hx hb dX7_copyRows_51 rfl hl (by decide) rfl (fun ls hl => ?_)
        have hlp_4 : ∀ (n k_4 : Nat) (s_4 : (Nat → Int64)), k_4 ≤ R → R < k_4 + n → zf (mf_copyRows_B52 m_at Wd R tray) m_trays k_4 = s_4 → ∀ (H : Heap) (locs : List Loc), va_P G.1 zcl (mW G ad m_status m_top m_bottom m_taped m_size m_token m_from m_end m_value m_faultKind m_faultPlace m_faults m_seen m_depth m_counted m_lead m_round m_tried m_triedMany m_drawn m_ranSteps m_isTold m_marks m_at m_names m_sort m_trayMany s_4 m_tape m_text m_opened m_beside m_then m_ways m_further m_canBe m_loops m_ran m_told0) H → va_D A (mW G ad m_status m_top m_bottom m_taped m_size m_token m_from m_end m_value m_faultKind m_faultPlace m_faults m_seen m_depth m_counted m_lead m_round m_tried m_triedMany m_drawn m_ranSteps m_isTold m_marks m_at m_names m_sort m_trayMany s_4 m_tape m_text m_opened m_beside m_then m_ways m_further m_canBe m_loops m_ran m_told0) → va_S A s.heap H locs → ∀ ls : Array Slot, lv_has ls 3 [(2, .int (nI k_4)), (0, .ref (ad 0)), (1, .int tray)] → W p l e (zR 2 0 0) s m ([.ref (ad 0), .int tray] : List Value).toArray below meth c H locs 0 0 (MQ below (zQm G (True) (some (.int ((mf_copyRows m_at m_trayMany m_trays Wd R tray).1))) (mW G ad ((mf_copyRows m_at m_trayMany m_trays Wd R tray).2.1) m_top m_bottom m_taped m_size m_token m_from m_end m_value m_faultKind m_faultPlace m_faults m_seen m_depth m_counted m_lead m_round m_tried m_triedMany m_drawn m_ranSteps m_isTold m_marks m_at m_names m_sort m_trayMany ((mf_copyRows m_at m_trayMany m_trays Wd R tray).2.2) m_tape m_text m_opened m_beside m_then m_ways m_further m_canBe m_loops m_ran m_told0) A) ([.ref (ad 0), .int tray] : List Value).toArray s 0 0 A) (F0 m 52 ls []) := by
          intro n
          induction n with
          | zero => intro k_4 s_4 h1 h2; exact absurd h2 (by omega)
          | succ n ih_4 =>
            intro k_4 s_4 hk_4 hn_4 hst_4 H locs hP hD hS ls hl
            refine lv_iload_n hx hb dX7_copyRows_52 rfl (lv_at hl 0 rfl) ?_
            refine lv_aload_n hx hb dX7_copyRows_53 rfl (lv_at hl 1 rfl) ?_
            refine va_get (D := G.1) (ci := 7) (v := .ref (ad 1)) (C := RX7) (T := TX7) (N := 39) hx hb hts in_X7 hown hK.1 hP 0 rfl rfl 0 (Nat.le_of_ble_eq_true rfl) (hts _ q1467) (fun _ h => h) rfl dX7_copyRows_54 ?_
            refine lv_iconst (v := 1) hx hb dX7_copyRows_57 (by decide) ?_
            refine zr_iald 1 (v := nI R) hx hb hK hP 1 rfl rfl (Nat.le_of_ble_eq_true rfl) rfl (by decide) (mOK_r hG) dX7_copyRows_58 ?_
            refine zr_ge k_4 R (by omega) (by omega) (tgt := 91) hx hb dX7_copyRows_59 (by decide) (fun c_4 => ?_) (fun c_4 => ?_)
            · have ek_4 : k_4 = R := Nat.le_antisymm hk_4 c_4
              have hs_4 : mf_copyRows_L52 m_at Wd R tray m_trays = s_4 := by rw [ek_4] at hst_4; exact hst_4
              have hl := lv_sub hl (l' := _) [1, 2] rfl
              refine lv_aload_n hx hb dX7_copyRows_91 rfl (lv_at hl 0 rfl) ?_
              refine lv_aload_n hx hb dX7_copyRows_92 rfl (lv_at hl 0 rfl) ?_
              refine va_get (D := G.1) (ci := 7) (v := .ref (ad 1)) (C := RX7) (T := TX7) (N := 39) hx hb hts in_X7 hown hK.1 hP 0 rfl rfl 0 (Nat.le_of_ble_eq_true rfl) (hts _ q1467) (fun _ h => h) rfl dX7_copyRows_93 ?_
              refine lv_iconst (v := 1) hx hb dX7_copyRows_96 (by decide) ?_
              refine zr_iald 1 (v := nI R) hx hb hK hP 1 rfl rfl (Nat.le_of_ble_eq_true rfl) rfl (by decide) (mOK_r hG) dX7_copyRows_97 ?_
              refine zr_muV (F := ()) (ff := fun _ => True) (rr := fun _ => some (.int (nI R))) (w1 := fun _ => (mW G ad 0 m_top m_bottom m_taped m_size m_token m_from m_end m_value m_faultKind m_faultPlace m_faults m_seen m_depth m_counted m_lead m_round m_tried m_triedMany m_drawn m_ranSteps m_isTold m_marks m_at m_names m_sort m_trayMany s_4 m_tape m_text m_opened m_beside m_then m_ways m_further m_canBe m_loops m_ran m_told0)) ⟨hx, hb, hml, hown, hts⟩ (mt_mf_gives l G ad m_status m_top m_bottom m_taped m_size m_token m_from m_end m_value m_faultKind m_faultPlace m_faults m_seen m_depth m_counted m_lead m_round m_tried m_triedMany m_drawn m_ranSteps m_isTold m_marks m_at m_names m_sort m_trayMany s_4 m_tape m_text m_opened m_beside m_then m_ways m_further m_canBe m_loops m_ran m_told0 (nI R) H.size) (cwV 1 hts (lw_V q1751 q1753 qs85 q144 q1754) rfl rfl rfl hd_X7_gives ⟨(Nat.le_of_ble_eq_true rfl), (Nat.le_of_ble_eq_true rfl)⟩) hP hD hS hA hK hE 0 7 rfl rfl rfl hl.1 rfl (Nat.le_of_ble_eq_true rfl) dX7_copyRows_98 ⟨Nat.le_refl _, Nat.le_refl _⟩ (fun _ _ _ H locs hP hD hS _ => ?_)
              refine W.eq (g2 := F0 m 101 ls [.int (nI R)]) rfl ?_
              have e_ : mf_copyRows m_at m_trayMany m_trays Wd R tray = (nI R, 0, s_4) := by rw [mf_copyRows, if_pos c_1, if_neg c_2, if_pos c_3, zlet_eq hs_4]
              exact zr_mi hx hb hr hlocks hP hD hS dX7_copyRows_101 (by rw [e_])  (by rw [e_]) trivial
            · have hlt_4 : k_4 < R := Nat.lt_of_not_le c_4
              refine lv_aload_n hx hb dX7_copyRows_62 rfl (lv_at hl 1 rfl) ?_
              refine va_get (D := G.1) (ci := 7) (v := .ref (ad 5)) (C := RX7) (T := TX7) (N := 39) hx hb hts in_X7 hown hK.1 hP 0 rfl rfl 7 (Nat.le_of_ble_eq_true rfl) (hts _ q1474) (fun _ h => h) rfl dX7_copyRows_63 ?_
              refine lv_bipush (v := 60) hx hb dX7_copyRows_66 (by decide) ?_
              refine lv_iload_n hx hb dX7_copyRows_68 rfl (lv_at hl 2 rfl) ?_
              refine zr_val (congrArg Value.int (z_nn hz0)) ?_
              refine W.eq (g2 := F0 m 69 ls [.int (nI tray.toNatClampNeg), .int 60, .ref (ad 5)]) rfl ?_
              refine zr_imulN 60 tray.toNatClampNeg hx hb dX7_copyRows_69 ?_
              refine lv_iload_n hx hb dX7_copyRows_70 rfl (lv_at hl 0 rfl) ?_
              refine zr_iaddN (60 * tray.toNatClampNeg) k_4 hx hb dX7_copyRows_71 ?_
              refine zr_val (v' := .int (nI (60 * tray.toNatClampNeg + k_4))) (by rfl) ?_
              refine lv_aload_n hx hb dX7_copyRows_72 rfl (lv_at hl 1 rfl) ?_
              refine lv_aload_n hx hb dX7_copyRows_73 rfl (lv_at hl 1 rfl) ?_
              refine va_get (D := G.1) (ci := 7) (v := .ref (ad 1)) (C := RX7) (T := TX7) (N := 39) hx hb hts in_X7 hown hK.1 hP 0 rfl rfl 0 (Nat.le_of_ble_eq_true rfl) (hts _ q1467) (fun _ h => h) rfl dX7_copyRows_74 ?_
              refine lv_iconst (v := 3) hx hb dX7_copyRows_77 (by decide) ?_
              refine zr_iald 3 (v := m_at 3) hx hb hK hP 1 rfl rfl (Nat.le_of_ble_eq_true rfl) rfl (by decide) rfl dX7_copyRows_78 ?_
              refine lv_iload_n hx hb dX7_copyRows_79 rfl (lv_at hl 0 rfl) ?_
              refine zr_obV ⟨hx, hb, hml, hown, hts⟩ (mt_mf_rowOf l G ad m_status m_top m_bottom m_taped m_size m_token m_from m_end m_value m_faultKind m_faultPlace m_faults m_seen m_depth m_counted m_lead m_round m_tried m_triedMany m_drawn m_ranSteps m_isTold m_marks m_at m_names m_sort m_trayMany s_4 m_tape m_text m_opened m_beside m_then m_ways m_further m_canBe m_loops m_ran m_told0 Wd R nr nc (m_at 3) (nI k_4) hG) (cwV 2 hts (lw_V q1868 q1870 qs103 q144 q1871) rfl rfl rfl hd_X7_rowOf ⟨(Nat.le_of_ble_eq_true rfl), (Nat.le_of_ble_eq_true rfl)⟩) hP hK (zE_o hE hS) 0 7 rfl rfl rfl hl.1 rfl (Nat.le_of_ble_eq_true rfl) dX7_copyRows_80 ⟨Nat.le_refl _, Nat.le_refl _⟩ ?_
              refine lv_i2l hx hb dX7_copyRows_83 rfl ?_
              refine zr_last (60 * tray.toNatClampNeg + k_4) (ws' := (mW G ad m_status m_top m_bottom m_taped m_size m_token m_from m_end m_value m_faultKind m_faultPlace m_faults m_seen m_depth m_counted m_lead m_round m_tried m_triedMany m_drawn m_ranSteps m_isTold m_marks m_at m_names m_sort m_trayMany (vp_updL s_4 (60 * tray.toNatClampNeg + k_4) ((mf_rowOf Wd (m_at 3) (nI k_4)).toInt64)) m_tape m_text m_opened m_beside m_then m_ways m_further m_canBe m_loops m_ran m_told0)) hx hb hK hP hD hS 5 rfl rfl (Nat.le_of_ble_eq_true rfl) rfl (by omega) rfl dX7_copyRows_84 (fun H locs hP hD hS => ?_)
              refine lv_iinc (v := nI (k_4 + 1)) (lv' := [(2, .int (nI (k_4 + 1))), (0, .ref (ad 0)), (1, .int tray)]) hx hb dX7_copyRows_85 hl (k := 0) rfl (nI_add k_4 1) (by decide) rfl (fun ls hl => ?_)
              refine lv_goto (tgt := 52) hx hb dX7_copyRows_88 (by decide) ?_
              exact ih_4 (k_4 + 1) (vp_updL s_4 (60 * tray.toNatClampNeg + k_4) ((mf_rowOf Wd (m_at 3) (nI k_4)).toInt64)) hlt_4 (by omega) (zf_s hst_4 (by rw [mf_copyRows_B52])) H locs hP hD hS ls (lv_sub hl [0, 1, 2] rfl)
        exact hlp_4 (R + 1) 0 m_trays (Nat.zero_le _) (by omega) rfl H locs hP hD hS ls (lv_sub hl [0, 1, 2] rfl)
      · refine lv_aload_n hx hb dX7_copyRows_44 rfl (lv_at hl 0 rfl) ?_
        refine lv_iconst (v := 3) hx hb dX7_copyRows_45 (by decide) ?_
        refine zr_muV (F := ()) (ff := fun _ => True) (rr := fun _ => some (.int (-1))) (w1 := fun _ => (mW G ad 3 m_top m_bottom m_taped m_size m_token m_from m_end m_value m_faultKind m_faultPlace m_faults m_seen m_depth m_counted m_lead m_round m_tried m_triedMany m_drawn m_ranSteps m_isTold m_marks m_at m_names m_sort m_trayMany m_trays m_tape m_text m_opened m_beside m_then m_ways m_further m_canBe m_loops m_ran m_told0)) ⟨hx, hb, hml, hown, hts⟩ (mt_mf_refuse l G ad m_status m_top m_bottom m_taped m_size m_token m_from m_end m_value m_faultKind m_faultPlace m_faults m_seen m_depth m_counted m_lead m_round m_tried m_triedMany m_drawn m_ranSteps m_isTold m_marks m_at m_names m_sort m_trayMany m_trays m_tape m_text m_opened m_beside m_then m_ways m_further m_canBe m_loops m_ran m_told0 3 H.size) (cwV 1 hts (lw_V q1666 q1668 qs66 q144 q1669) rfl rfl rfl hd_X7_refuse ⟨(Nat.le_of_ble_eq_true rfl), (Nat.le_of_ble_eq_true rfl)⟩) hP hD hS hA hK hE 0 7 rfl rfl rfl hl.1 rfl (Nat.le_of_ble_eq_true rfl) dX7_copyRows_46 ⟨Nat.le_refl _, Nat.le_refl _⟩ (fun _ _ _ H locs hP hD hS _ => ?_)
        refine W.eq (g2 := F0 m 49 ls [.int (-1)]) rfl ?_
        have e_ : mf_copyRows m_at m_trayMany m_trays Wd R tray = ((-1), 3, m_trays) := by rw [mf_copyRows, if_pos c_1, if_neg c_2, if_neg c_3]
        exact zr_mi hx hb hr hlocks hP hD hS dX7_copyRows_49 (by rw [e_])  (by rw [e_]) trivial
    · refine lv_aload_n hx hb dX7_copyRows_23 rfl (lv_at hl 0 rfl) ?_
      refine lv_iconst (v := 2) hx hb dX7_copyRows_24 (by decide) ?_
      refine zr_muV (F := ()) (ff := fun _ => True) (rr := fun _ => some (.int (-1))) (w1 := fun _ => (mW G ad 2 m_top m_bottom m_taped m_size m_token m_from m_end m_value m_faultKind m_faultPlace m_faults m_seen m_depth m_counted m_lead m_round m_tried m_triedMany m_drawn m_ranSteps m_isTold m_marks m_at m_names m_sort m_trayMany m_trays m_tape m_text m_opened m_beside m_then m_ways m_further m_canBe m_loops m_ran m_told0)) ⟨hx, hb, hml, hown, hts⟩ (mt_mf_refuse l G ad m_status m_top m_bottom m_taped m_size m_token m_from m_end m_value m_faultKind m_faultPlace m_faults m_seen m_depth m_counted m_lead m_round m_tried m_triedMany m_drawn m_ranSteps m_isTold m_marks m_at m_names m_sort m_trayMany m_trays m_tape m_text m_opened m_beside m_then m_ways m_further m_canBe m_loops m_ran m_told0 2 H.size) (cwV 1 hts (lw_V q1666 q1668 qs66 q144 q1669) rfl rfl rfl hd_X7_refuse ⟨(Nat.le_of_ble_eq_true rfl), (Nat.le_of_ble_eq_true rfl)⟩) hP hD hS hA hK hE 0 7 rfl rfl rfl hl.1 rfl (Nat.le_of_ble_eq_true rfl) dX7_copyRows_25 ⟨Nat.le_refl _, Nat.le_refl _⟩ (fun _ _ _ H locs hP hD hS _ => ?_)
      refine W.eq (g2 := F0 m 28 ls [.int (-1)]) rfl ?_
      have e_ : mf_copyRows m_at m_trayMany m_trays Wd R tray = ((-1), 2, m_trays) := by rw [mf_copyRows, if_pos c_1, if_pos c_2]
      exact zr_mi hx hb hr hlocks hP hD hS dX7_copyRows_28 (by rw [e_])  (by rw [e_]) trivial
  · refine lv_aload_n hx hb dX7_copyRows_7 rfl (lv_at hl 0 rfl) ?_
    refine lv_iconst (v := 1) hx hb dX7_copyRows_8 (by decide) ?_
    refine zr_muV (F := ()) (ff := fun _ => True) (rr := fun _ => some (.int (-1))) (w1 := fun _ => (mW G ad 1 m_top m_bottom m_taped m_size m_token m_from m_end m_value m_faultKind m_faultPlace m_faults m_seen m_depth m_counted m_lead m_round m_tried m_triedMany m_drawn m_ranSteps m_isTold m_marks m_at m_names m_sort m_trayMany m_trays m_tape m_text m_opened m_beside m_then m_ways m_further m_canBe m_loops m_ran m_told0)) ⟨hx, hb, hml, hown, hts⟩ (mt_mf_refuse l G ad m_status m_top m_bottom m_taped m_size m_token m_from m_end m_value m_faultKind m_faultPlace m_faults m_seen m_depth m_counted m_lead m_round m_tried m_triedMany m_drawn m_ranSteps m_isTold m_marks m_at m_names m_sort m_trayMany m_trays m_tape m_text m_opened m_beside m_then m_ways m_further m_canBe m_loops m_ran m_told0 1 H.size) (cwV 1 hts (lw_V q1666 q1668 qs66 q144 q1669) rfl rfl rfl hd_X7_refuse ⟨(Nat.le_of_ble_eq_true rfl), (Nat.le_of_ble_eq_true rfl)⟩) hP hD hS hA hK hE 0 7 rfl rfl rfl hl.1 rfl (Nat.le_of_ble_eq_true rfl) dX7_copyRows_9 ⟨Nat.le_refl _, Nat.le_refl _⟩ (fun _ _ _ H locs hP hD hS _ => ?_)
    refine W.eq (g2 := F0 m 12 ls [.int (-1)]) rfl ?_
    have e_ : mf_copyRows m_at m_trayMany m_trays Wd R tray = ((-1), 1, m_trays) := by rw [mf_copyRows, if_neg c_1]
    exact zr_mi hx hb hr hlocks hP hD hS dX7_copyRows_12 (by rw [e_])  (by rw [e_]) trivial
def mf_mayor (m_at : Nat → Int32) (nr : Nat) (ru : Int32) : Bool × Int32 × (Nat → Int32) :=
  (if (mf_isRule nr ru) = true then
    (true, 0, upd m_at 10 ru)
  else
    (false, 1, m_at))
theorem hd_X7_mayor : yX7_mayor.cls = RX7 ∧ yX7_mayor.cls ≠ "java/lang/invoke/MethodHandle" ∧ yX7_mayor.cls ≠ "java/lang/invoke/VarHandle" ∧ (parseMethodDescriptor yX7_mayor.desc).map (fun d => d.parameters.length) = some 1 := by decide +kernel
set_option maxHeartbeats 4000000 in
set_option maxRecDepth 100000 in
theorem mt_mf_mayor (l : Launch) (G : zG) (ad : Nat → Nat) (m_status : Int32) (m_top : Int64) (m_bottom : Int64) (m_taped : Int32) (m_size : Int32) (m_token : Int32) (m_from : Int32) (m_end : Int32) (m_value : Int32) (m_faultKind : Int32) (m_faultPlace : Int32) (m_faults : Int32) (m_seen : Int32) (m_depth : Int32) (m_counted : Int32) (m_lead : Int32) (m_round : Int32) (m_tried : Int32) (m_triedMany : Int32) (m_drawn : Int32) (m_ranSteps : Int32) (m_isTold : Bool) (m_marks : Int32) (m_at : Nat → Int32) (m_names : Nat → Int64) (m_sort : Nat → Int32) (m_trayMany : Nat → Int32) (m_trays : Nat → Int64) (m_tape : Nat → Int32) (m_text : Nat → Int32) (m_opened : Nat → Int32) (m_beside : Nat → Int32) (m_then : Nat → Int32) (m_ways : Nat → Int64) (m_further : Nat → Int64) (m_canBe : Nat → Int32) (m_loops : Nat → Int32) (m_ran : Nat → Int32) (m_told0 : Nat → Int32) (Wd : Nat) (R : Nat) (nr : Nat) (nc : Nat) (ru : Int32) (hG : mOK m_at Wd R nr nc) (sz : Nat) : Met l yX7_mayor (ws_ yX7_mayor cX7_mayor 2 (some .boolean)) (zR 2 0 0) (zPm G sz [.ref (ad 0), .int ru] (mW G ad m_status m_top m_bottom m_taped m_size m_token m_from m_end m_value m_faultKind m_faultPlace m_faults m_seen m_depth m_counted m_lead m_round m_tried m_triedMany m_drawn m_ranSteps m_isTold m_marks m_at m_names m_sort m_trayMany m_trays m_tape m_text m_opened m_beside m_then m_ways m_further m_canBe m_loops m_ran m_told0)) (zQm G (mOK ((mf_mayor m_at nr ru).2.2) Wd R nr nc) (some (.int (zb ((mf_mayor m_at nr ru).1)))) (mW G ad ((mf_mayor m_at nr ru).2.1) m_top m_bottom m_taped m_size m_token m_from m_end m_value m_faultKind m_faultPlace m_faults m_seen m_depth m_counted m_lead m_round m_tried m_triedMany m_drawn m_ranSteps m_isTold m_marks ((mf_mayor m_at nr ru).2.2) m_names m_sort m_trayMany m_trays m_tape m_text m_opened m_beside m_then m_ways m_further m_canBe m_loops m_ran m_told0) (va_A (mW G ad m_status m_top m_bottom m_taped m_size m_token m_from m_end m_value m_faultKind m_faultPlace m_faults m_seen m_depth m_counted m_lead m_round m_tried m_triedMany m_drawn m_ranSteps m_isTold m_marks m_at m_names m_sort m_trayMany m_trays m_tape m_text m_opened m_beside m_then m_ways m_further m_canBe m_loops m_ran m_told0) sz)) 0 0 (va_A (mW G ad m_status m_top m_bottom m_taped m_size m_token m_from m_end m_value m_faultKind m_faultPlace m_faults m_seen m_depth m_counted m_lead m_round m_tried m_triedMany m_drawn m_ranSteps m_isTold m_marks m_at m_names m_sort m_trayMany m_trays m_tape m_text m_opened m_beside m_then m_ways m_further m_canBe m_loops m_ran m_told0) sz) := by
  refine zr_entM (by decide) (Nat.le_of_ble_eq_true rfl) ?_
  intro p e s m below meth c ⟨hx, hb, hr, hml, hown, hts, hlocks, hnm⟩ ls hl hP hK A hE hA hD hS
  have hown : s.vm.findClass RX7 = some m.cls := hown
  have hl : lv_has ls 2 [(0, .ref (ad 0)), (1, .int ru)] := hl
  obtain ⟨H, hH⟩ : ∃ H, H = s.heap := ⟨_, rfl⟩
  obtain ⟨locs, hlo⟩ : ∃ L : List Loc, L = [] := ⟨_, rfl⟩
  rw [← hH] at hP
  have hS : va_S A s.heap H locs := by rw [hH, hlo]; exact va_S.rf
  have hgo : W p l e (zR 2 0 0) s m ([.ref (ad 0), .int ru] : List Value).toArray below meth c H locs 0 0 (MQ below (zQm G (mOK ((mf_mayor m_at nr ru).2.2) Wd R nr nc) (some (.int (zb ((mf_mayor m_at nr ru).1)))) (mW G ad ((mf_mayor m_at nr ru).2.1) m_top m_bottom m_taped m_size m_token m_from m_end m_value m_faultKind m_faultPlace m_faults m_seen m_depth m_counted m_lead m_round m_tried m_triedMany m_drawn m_ranSteps m_isTold m_marks ((mf_mayor m_at nr ru).2.2) m_names m_sort m_trayMany m_trays m_tape m_text m_opened m_beside m_then m_ways m_further m_canBe m_loops m_ran m_told0) A) ([.ref (ad 0), .int ru] : List Value).toArray s 0 0 A) (F0 m 0 ls []) := ?_
  · rw [hH, hlo] at hgo; exact hgo
  clear hH hlo
  have hWR := mOK_WR hG
  have hW0 := mOK_W0 hG
  have hW5 := mOK_W5 hG
  have hR0 := mOK_R0 hG
  have hR6 := mOK_R6 hG
  have hn4 := mOK_n4 hG
  have hc6 := mOK_c6 hG
  refine lv_aload_n hx hb dX7_mayor_0 rfl (lv_at hl 0 rfl) ?_
  refine lv_iload_n hx hb dX7_mayor_1 rfl (lv_at hl 1 rfl) ?_
  refine zr_obV ⟨hx, hb, hml, hown, hts⟩ (mt_mf_isRule l G ad m_status m_top m_bottom m_taped m_size m_token m_from m_end m_value m_faultKind m_faultPlace m_faults m_seen m_depth m_counted m_lead m_round m_tried m_triedMany m_drawn m_ranSteps m_isTold m_marks m_at m_names m_sort m_trayMany m_trays m_tape m_text m_opened m_beside m_then m_ways m_further m_canBe m_loops m_ran m_told0 Wd R nr nc ru hG) (cwV 1 hts (lw_V q1823 q1825 qs98 q144 q1826) rfl rfl rfl hd_X7_isRule ⟨(Nat.le_of_ble_eq_true rfl), (Nat.le_of_ble_eq_true rfl)⟩) hP hK (zE_o hE hS) 0 7 rfl rfl rfl hl.1 rfl (Nat.le_of_ble_eq_true rfl) dX7_mayor_2 ⟨Nat.le_refl _, Nat.le_refl _⟩ ?_
  refine zr_neB (mf_isRule nr ru) (tgt := 14) hx hb dX7_mayor_5 (by decide) (fun c_1 => ?_) (fun c_1 => ?_)
  · have hrr := isRule_t hn4 c_1
    refine lv_aload_n hx hb dX7_mayor_14 rfl (lv_at hl 0 rfl) ?_
    refine va_get (D := G.1) (ci := 7) (v := .ref (ad 1)) (C := RX7) (T := TX7) (N := 39) hx hb hts in_X7 hown hK.1 hP 0 rfl rfl 0 (Nat.le_of_ble_eq_true rfl) (hts _ q1467) (fun _ h => h) rfl dX7_mayor_15 ?_
    refine lv_bipush (v := 10) hx hb dX7_mayor_18 (by decide) ?_
    refine lv_iload_n hx hb dX7_mayor_20 rfl (lv_at hl 1 rfl) ?_
    refine zr_iast 10 (ws' := (mW G ad m_status m_top m_bottom m_taped m_size m_token m_from m_end m_value m_faultKind m_faultPlace m_faults m_seen m_depth m_counted m_lead m_round m_tried m_triedMany m_drawn m_ranSteps m_isTold m_marks (upd m_at 10 ru) m_names m_sort m_trayMany m_trays m_tape m_text m_opened m_beside m_then m_ways m_further m_canBe m_loops m_ran m_told0)) hx hb hK hP hD hS 1 rfl rfl (Nat.le_of_ble_eq_true rfl) rfl (by decide) rfl dX7_mayor_21 (fun H locs hP hD hS => ?_)
    refine lv_aload_n hx hb dX7_mayor_22 rfl (lv_at hl 0 rfl) ?_
    refine lv_iconst (v := 0) hx hb dX7_mayor_23 (by decide) ?_
    refine zr_muV (F := ()) (ff := fun _ => True) (rr := fun _ => some (.int (zb (decide ((0 : Int32) = 0))))) (w1 := fun _ => (mW G ad 0 m_top m_bottom m_taped m_size m_token m_from m_end m_value m_faultKind m_faultPlace m_faults m_seen m_depth m_counted m_lead m_round m_tried m_triedMany m_drawn m_ranSteps m_isTold m_marks (upd m_at 10 ru) m_names m_sort m_trayMany m_trays m_tape m_text m_opened m_beside m_then m_ways m_further m_canBe m_loops m_ran m_told0)) ⟨hx, hb, hml, hown, hts⟩ (mt_mf_is l G ad m_status m_top m_bottom m_taped m_size m_token m_from m_end m_value m_faultKind m_faultPlace m_faults m_seen m_depth m_counted m_lead m_round m_tried m_triedMany m_drawn m_ranSteps m_isTold m_marks (upd m_at 10 ru) m_names m_sort m_trayMany m_trays m_tape m_text m_opened m_beside m_then m_ways m_further m_canBe m_loops m_ran m_told0 0 H.size) (cwV 1 hts (lw_V q1604 q1606 qs60 q144 q1607) rfl rfl rfl hd_X7_is ⟨(Nat.le_of_ble_eq_true rfl), (Nat.le_of_ble_eq_true rfl)⟩) hP hD hS hA hK hE 0 7 rfl rfl rfl hl.1 rfl (Nat.le_of_ble_eq_true rfl) dX7_mayor_24 ⟨Nat.le_refl _, Nat.le_refl _⟩ (fun _ _ _ H locs hP hD hS _ => ?_)
    refine W.eq (g2 := F0 m 27 ls [.int (zb (decide ((0 : Int32) = 0)))]) rfl ?_
    refine zr_val (v' := .int 1) (congrArg Value.int (by decide)) ?_
    have e_ : mf_mayor m_at nr ru = (true, 0, upd m_at 10 ru) := by rw [mf_mayor, if_pos c_1]
    exact zr_mz hx hb hr hlocks hP hD hS dX7_mayor_27 rfl (by rw [e_]; rfl) (by rw [e_]) (by rw [e_]; exact (mOK_ub hG (Or.inr hrr)))
  · refine lv_aload_n hx hb dX7_mayor_8 rfl (lv_at hl 0 rfl) ?_
    refine lv_iconst (v := 1) hx hb dX7_mayor_9 (by decide) ?_
    refine zr_muV (F := ()) (ff := fun _ => True) (rr := fun _ => some (.int (zb (decide ((1 : Int32) = 0))))) (w1 := fun _ => (mW G ad 1 m_top m_bottom m_taped m_size m_token m_from m_end m_value m_faultKind m_faultPlace m_faults m_seen m_depth m_counted m_lead m_round m_tried m_triedMany m_drawn m_ranSteps m_isTold m_marks m_at m_names m_sort m_trayMany m_trays m_tape m_text m_opened m_beside m_then m_ways m_further m_canBe m_loops m_ran m_told0)) ⟨hx, hb, hml, hown, hts⟩ (mt_mf_is l G ad m_status m_top m_bottom m_taped m_size m_token m_from m_end m_value m_faultKind m_faultPlace m_faults m_seen m_depth m_counted m_lead m_round m_tried m_triedMany m_drawn m_ranSteps m_isTold m_marks m_at m_names m_sort m_trayMany m_trays m_tape m_text m_opened m_beside m_then m_ways m_further m_canBe m_loops m_ran m_told0 1 H.size) (cwV 1 hts (lw_V q1604 q1606 qs60 q144 q1607) rfl rfl rfl hd_X7_is ⟨(Nat.le_of_ble_eq_true rfl), (Nat.le_of_ble_eq_true rfl)⟩) hP hD hS hA hK hE 0 7 rfl rfl rfl hl.1 rfl (Nat.le_of_ble_eq_true rfl) dX7_mayor_10 ⟨Nat.le_refl _, Nat.le_refl _⟩ (fun _ _ _ H locs hP hD hS _ => ?_)
    refine W.eq (g2 := F0 m 13 ls [.int (zb (decide ((1 : Int32) = 0)))]) rfl ?_
    refine zr_val (v' := .int 0) (congrArg Value.int (by decide)) ?_
    have e_ : mf_mayor m_at nr ru = (false, 1, m_at) := by rw [mf_mayor, if_neg c_1]
    exact zr_mz hx hb hr hlocks hP hD hS dX7_mayor_13 rfl (by rw [e_]; rfl) (by rw [e_]) (by rw [e_]; exact hG)
def mf_bend (m_at : Nat → Int32) (nr : Nat) (ru : Int32) (bo : Int32) (sy : Int32) : Bool × Int32 × (Nat → Int32) :=
  (if (mf_isRule nr ru) = true then
    (if (mf_isFrom bo.toInt64 0 31) = true then
      (if (mf_isFrom sy.toInt64 0 31) = true then
        (true, 0, upd (upd m_at (12 + (2 * ru.toNatClampNeg)) bo) (12 + (2 * ru.toNatClampNeg) + 1) sy)
      else
        (false, 1, m_at))
    else
      (false, 1, m_at))
  else
    (false, 1, m_at))
theorem hd_X7_bend : yX7_bend.cls = RX7 ∧ yX7_bend.cls ≠ "java/lang/invoke/MethodHandle" ∧ yX7_bend.cls ≠ "java/lang/invoke/VarHandle" ∧ (parseMethodDescriptor yX7_bend.desc).map (fun d => d.parameters.length) = some 3 := by decide +kernel
set_option maxHeartbeats 4000000 in
set_option maxRecDepth 100000 in
theorem mt_mf_bend (l : Launch) (G : zG) (ad : Nat → Nat) (m_status : Int32) (m_top : Int64) (m_bottom : Int64) (m_taped : Int32) (m_size : Int32) (m_token : Int32) (m_from : Int32) (m_end : Int32) (m_value : Int32) (m_faultKind : Int32) (m_faultPlace : Int32) (m_faults : Int32) (m_seen : Int32) (m_depth : Int32) (m_counted : Int32) (m_lead : Int32) (m_round : Int32) (m_tried : Int32) (m_triedMany : Int32) (m_drawn : Int32) (m_ranSteps : Int32) (m_isTold : Bool) (m_marks : Int32) (m_at : Nat → Int32) (m_names : Nat → Int64) (m_sort : Nat → Int32) (m_trayMany : Nat → Int32) (m_trays : Nat → Int64) (m_tape : Nat → Int32) (m_text : Nat → Int32) (m_opened : Nat → Int32) (m_beside : Nat → Int32) (m_then : Nat → Int32) (m_ways : Nat → Int64) (m_further : Nat → Int64) (m_canBe : Nat → Int32) (m_loops : Nat → Int32) (m_ran : Nat → Int32) (m_told0 : Nat → Int32) (Wd : Nat) (R : Nat) (nr : Nat) (nc : Nat) (ru : Int32) (bo : Int32) (sy : Int32) (hG : mOK m_at Wd R nr nc) (sz : Nat) : Met l yX7_bend (ws_ yX7_bend cX7_bend 4 (some .boolean)) (zR 2 0 0) (zPm G sz [.ref (ad 0), .int ru, .int bo, .int sy] (mW G ad m_status m_top m_bottom m_taped m_size m_token m_from m_end m_value m_faultKind m_faultPlace m_faults m_seen m_depth m_counted m_lead m_round m_tried m_triedMany m_drawn m_ranSteps m_isTold m_marks m_at m_names m_sort m_trayMany m_trays m_tape m_text m_opened m_beside m_then m_ways m_further m_canBe m_loops m_ran m_told0)) (zQm G (mOK ((mf_bend m_at nr ru bo sy).2.2) Wd R nr nc) (some (.int (zb ((mf_bend m_at nr ru bo sy).1)))) (mW G ad ((mf_bend m_at nr ru bo sy).2.1) m_top m_bottom m_taped m_size m_token m_from m_end m_value m_faultKind m_faultPlace m_faults m_seen m_depth m_counted m_lead m_round m_tried m_triedMany m_drawn m_ranSteps m_isTold m_marks ((mf_bend m_at nr ru bo sy).2.2) m_names m_sort m_trayMany m_trays m_tape m_text m_opened m_beside m_then m_ways m_further m_canBe m_loops m_ran m_told0) (va_A (mW G ad m_status m_top m_bottom m_taped m_size m_token m_from m_end m_value m_faultKind m_faultPlace m_faults m_seen m_depth m_counted m_lead m_round m_tried m_triedMany m_drawn m_ranSteps m_isTold m_marks m_at m_names m_sort m_trayMany m_trays m_tape m_text m_opened m_beside m_then m_ways m_further m_canBe m_loops m_ran m_told0) sz)) 0 0 (va_A (mW G ad m_status m_top m_bottom m_taped m_size m_token m_from m_end m_value m_faultKind m_faultPlace m_faults m_seen m_depth m_counted m_lead m_round m_tried m_triedMany m_drawn m_ranSteps m_isTold m_marks m_at m_names m_sort m_trayMany m_trays m_tape m_text m_opened m_beside m_then m_ways m_further m_canBe m_loops m_ran m_told0) sz) := by
  refine zr_entM (by decide) (Nat.le_of_ble_eq_true rfl) ?_
  intro p e s m below meth c ⟨hx, hb, hr, hml, hown, hts, hlocks, hnm⟩ ls hl hP hK A hE hA hD hS
  have hown : s.vm.findClass RX7 = some m.cls := hown
  have hl : lv_has ls 4 [(0, .ref (ad 0)), (1, .int ru), (2, .int bo), (3, .int sy)] := hl
  obtain ⟨H, hH⟩ : ∃ H, H = s.heap := ⟨_, rfl⟩
  obtain ⟨locs, hlo⟩ : ∃ L : List Loc, L = [] := ⟨_, rfl⟩
  rw [← hH] at hP
  have hS : va_S A s.heap H locs := by rw [hH, hlo]; exact va_S.rf
  have hgo : W p l e (zR 2 0 0) s m ([.ref (ad 0), .int ru, .int bo, .int sy] : List Value).toArray below meth c H locs 0 0 (MQ below (zQm G (mOK ((mf_bend m_at nr ru bo sy).2.2) Wd R nr nc) (some (.int (zb ((mf_bend m_at nr ru bo sy).1)))) (mW G ad ((mf_bend m_at nr ru bo sy).2.1) m_top m_bottom m_taped m_size m_token m_from m_end m_value m_faultKind m_faultPlace m_faults m_seen m_depth m_counted m_lead m_round m_tried m_triedMany m_drawn m_ranSteps m_isTold m_marks ((mf_bend m_at nr ru bo sy).2.2) m_names m_sort m_trayMany m_trays m_tape m_text m_opened m_beside m_then m_ways m_further m_canBe m_loops m_ran m_told0) A) ([.ref (ad 0), .int ru, .int bo, .int sy] : List Value).toArray s 0 0 A) (F0 m 0 ls []) := ?_
  · rw [hH, hlo] at hgo; exact hgo
  clear hH hlo
  have hWR := mOK_WR hG
  have hW0 := mOK_W0 hG
  have hW5 := mOK_W5 hG
  have hR0 := mOK_R0 hG
  have hR6 := mOK_R6 hG
  have hn4 := mOK_n4 hG
  have hc6 := mOK_c6 hG
  refine lv_aload_n hx hb dX7_bend_0 rfl (lv_at hl 0 rfl) ?_
  refine lv_iload_n hx hb dX7_bend_1 rfl (lv_at hl 1 rfl) ?_
  refine zr_obV ⟨hx, hb, hml, hown, hts⟩ (mt_mf_isRule l G ad m_status m_top m_bottom m_taped m_size m_token m_from m_end m_value m_faultKind m_faultPlace m_faults m_seen m_depth m_counted m_lead m_round m_tried m_triedMany m_drawn m_ranSteps m_isTold m_marks m_at m_names m_sort m_trayMany m_trays m_tape m_text m_opened m_beside m_then m_ways m_further m_canBe m_loops m_ran m_told0 Wd R nr nc ru hG) (cwV 1 hts (lw_V q1823 q1825 qs98 q144 q1826) rfl rfl rfl hd_X7_isRule ⟨(Nat.le_of_ble_eq_true rfl), (Nat.le_of_ble_eq_true rfl)⟩) hP hK (zE_o hE hS) 0 7 rfl rfl rfl hl.1 rfl (Nat.le_of_ble_eq_true rfl) dX7_bend_2 ⟨Nat.le_refl _, Nat.le_refl _⟩ ?_
  refine zr_eqB (mf_isRule nr ru) (tgt := 32) hx hb dX7_bend_5 (by decide) (fun c_1 => ?_) (fun c_1 => ?_)
  · refine lv_aload_n hx hb dX7_bend_32 rfl (lv_at hl 0 rfl) ?_
    refine lv_iconst (v := 1) hx hb dX7_bend_33 (by decide) ?_
    refine zr_muV (F := ()) (ff := fun _ => True) (rr := fun _ => some (.int (zb (decide ((1 : Int32) = 0))))) (w1 := fun _ => (mW G ad 1 m_top m_bottom m_taped m_size m_token m_from m_end m_value m_faultKind m_faultPlace m_faults m_seen m_depth m_counted m_lead m_round m_tried m_triedMany m_drawn m_ranSteps m_isTold m_marks m_at m_names m_sort m_trayMany m_trays m_tape m_text m_opened m_beside m_then m_ways m_further m_canBe m_loops m_ran m_told0)) ⟨hx, hb, hml, hown, hts⟩ (mt_mf_is l G ad m_status m_top m_bottom m_taped m_size m_token m_from m_end m_value m_faultKind m_faultPlace m_faults m_seen m_depth m_counted m_lead m_round m_tried m_triedMany m_drawn m_ranSteps m_isTold m_marks m_at m_names m_sort m_trayMany m_trays m_tape m_text m_opened m_beside m_then m_ways m_further m_canBe m_loops m_ran m_told0 1 H.size) (cwV 1 hts (lw_V q1604 q1606 qs60 q144 q1607) rfl rfl rfl hd_X7_is ⟨(Nat.le_of_ble_eq_true rfl), (Nat.le_of_ble_eq_true rfl)⟩) hP hD hS hA hK hE 0 7 rfl rfl rfl hl.1 rfl (Nat.le_of_ble_eq_true rfl) dX7_bend_34 ⟨Nat.le_refl _, Nat.le_refl _⟩ (fun _ _ _ H locs hP hD hS _ => ?_)
    refine W.eq (g2 := F0 m 37 ls [.int (zb (decide ((1 : Int32) = 0)))]) rfl ?_
    refine zr_val (v' := .int 0) (congrArg Value.int (by decide)) ?_
    have e_ : mf_bend m_at nr ru bo sy = (false, 1, m_at) := by rw [mf_bend, if_neg c_1]
    exact zr_mz hx hb hr hlocks hP hD hS dX7_bend_37 rfl (by rw [e_]; rfl) (by rw [e_]) (by rw [e_]; exact hG)
  · obtain ⟨hr0, hr1⟩ := isRule_t hn4 c_1
    refine lv_iload_n hx hb dX7_bend_8 rfl (lv_at hl 2 rfl) ?_
    refine lv_i2l hx hb dX7_bend_9 rfl ?_
    refine lv_lconst (v := 0) hx hb dX7_bend_10 rfl ?_
    refine lv_ldc2 (v := 31) hx hb hown (hts _ q1863) dX7_bend_11 ?_
    refine zr_puS ⟨hx, hb, hml, hown, hts⟩ (mt_mf_isFrom l bo.toInt64 0 31) (va_cwS 3 hts (lw_S q1848 q1849 q144 q1850) rfl rfl rfl hd_X7_isFrom.2 ⟨(Nat.le_of_ble_eq_true rfl), (Nat.le_of_ble_eq_true rfl)⟩) rfl hl.1 rfl (Nat.le_of_ble_eq_true rfl) dX7_bend_14 ⟨Nat.le_refl _, Nat.le_refl _⟩ ?_
    refine zr_eqB (mf_isFrom bo.toInt64 0 31) (tgt := 32) hx hb dX7_bend_17 (by decide) (fun c_3 => ?_) (fun c_3 => ?_)
    · refine lv_aload_n hx hb dX7_bend_32 rfl (lv_at hl 0 rfl) ?_
      refine lv_iconst (v := 1) hx hb dX7_bend_33 (by decide) ?_
      refine zr_muV (F := ()) (ff := fun _ => True) (rr := fun _ => some (.int (zb (decide ((1 : Int32) = 0))))) (w1 := fun _ => (mW G ad 1 m_top m_bottom m_taped m_size m_token m_from m_end m_value m_faultKind m_faultPlace m_faults m_seen m_depth m_counted m_lead m_round m_tried m_triedMany m_drawn m_ranSteps m_isTold m_marks m_at m_names m_sort m_trayMany m_trays m_tape m_text m_opened m_beside m_then m_ways m_further m_canBe m_loops m_ran m_told0)) ⟨hx, hb, hml, hown, hts⟩ (mt_mf_is l G ad m_status m_top m_bottom m_taped m_size m_token m_from m_end m_value m_faultKind m_faultPlace m_faults m_seen m_depth m_counted m_lead m_round m_tried m_triedMany m_drawn m_ranSteps m_isTold m_marks m_at m_names m_sort m_trayMany m_trays m_tape m_text m_opened m_beside m_then m_ways m_further m_canBe m_loops m_ran m_told0 1 H.size) (cwV 1 hts (lw_V q1604 q1606 qs60 q144 q1607) rfl rfl rfl hd_X7_is ⟨(Nat.le_of_ble_eq_true rfl), (Nat.le_of_ble_eq_true rfl)⟩) hP hD hS hA hK hE 0 7 rfl rfl rfl hl.1 rfl (Nat.le_of_ble_eq_true rfl) dX7_bend_34 ⟨Nat.le_refl _, Nat.le_refl _⟩ (fun _ _ _ H locs hP hD hS _ => ?_)
      refine W.eq (g2 := F0 m 37 ls [.int (zb (decide ((1 : Int32) = 0)))]) rfl ?_
      refine zr_val (v' := .int 0) (congrArg Value.int (by decide)) ?_
      have e_ : mf_bend m_at nr ru bo sy = (false, 1, m_at) := by rw [mf_bend, if_pos c_1, if_neg c_3]
      exact zr_mz hx hb hr hlocks hP hD hS dX7_bend_37 rfl (by rw [e_]; rfl) (by rw [e_]) (by rw [e_]; exact hG)
    · refine lv_iload_n hx hb dX7_bend_20 rfl (lv_at hl 3 rfl) ?_
      refine lv_i2l hx hb dX7_bend_21 rfl ?_
      refine lv_lconst (v := 0) hx hb dX7_bend_22 rfl ?_
      refine lv_ldc2 (v := 31) hx hb hown (hts _ q1863) dX7_bend_23 ?_
      refine zr_puS ⟨hx, hb, hml, hown, hts⟩ (mt_mf_isFrom l sy.toInt64 0 31) (va_cwS 3 hts (lw_S q1848 q1849 q144 q1850) rfl rfl rfl hd_X7_isFrom.2 ⟨(Nat.le_of_ble_eq_true rfl), (Nat.le_of_ble_eq_true rfl)⟩) rfl hl.1 rfl (Nat.le_of_ble_eq_true rfl) dX7_bend_26 ⟨Nat.le_refl _, Nat.le_refl _⟩ ?_
      refine zr_neB (mf_isFrom sy.toInt64 0 31) (tgt := 38) hx hb dX7_bend_29 (by decide) (fun c_5 => ?_) (fun c_5 => ?_)
      · refine lv_aload_n hx hb dX7_bend_38 rfl (lv_at hl 0 rfl) ?_
        refine va_get (D := G.1) (ci := 7) (v := .ref (ad 1)) (C := RX7) (T := TX7) (N := 39) hx hb hts in_X7 hown hK.1 hP 0 rfl rfl 0 (Nat.le_of_ble_eq_true rfl) (hts _ q1467) (fun _ h => h) rfl dX7_bend_39 ?_
        refine lv_bipush (v := 12) hx hb dX7_bend_42 (by decide) ?_
        refine lv_iconst (v := 2) hx hb dX7_bend_44 (by decide) ?_
        refine lv_iload_n hx hb dX7_bend_45 rfl (lv_at hl 1 rfl) ?_
        refine zr_val (congrArg Value.int (z_nn hr0)) ?_
        refine W.eq (g2 := F0 m 46 ls [.int (nI ru.toNatClampNeg), .int 2, .int 12, .ref (ad 1)]) rfl ?_
        refine zr_imulN 2 ru.toNatClampNeg hx hb dX7_bend_46 ?_
        refine zr_iaddN 12 (2 * ru.toNatClampNeg) hx hb dX7_bend_47 ?_
        refine lv_iload_n hx hb dX7_bend_48 rfl (lv_at hl 2 rfl) ?_
        refine zr_iast (12 + (2 * ru.toNatClampNeg)) (ws' := (mW G ad m_status m_top m_bottom m_taped m_size m_token m_from m_end m_value m_faultKind m_faultPlace m_faults m_seen m_depth m_counted m_lead m_round m_tried m_triedMany m_drawn m_ranSteps m_isTold m_marks (upd m_at (12 + (2 * ru.toNatClampNeg)) bo) m_names m_sort m_trayMany m_trays m_tape m_text m_opened m_beside m_then m_ways m_further m_canBe m_loops m_ran m_told0)) hx hb hK hP hD hS 1 rfl rfl (Nat.le_of_ble_eq_true rfl) rfl (by omega) rfl dX7_bend_49 (fun H locs hP hD hS => ?_)
        refine lv_aload_n hx hb dX7_bend_50 rfl (lv_at hl 0 rfl) ?_
        refine va_get (D := G.1) (ci := 7) (v := .ref (ad 1)) (C := RX7) (T := TX7) (N := 39) hx hb hts in_X7 hown hK.1 hP 0 rfl rfl 0 (Nat.le_of_ble_eq_true rfl) (hts _ q1467) (fun _ h => h) rfl dX7_bend_51 ?_
        refine lv_bipush (v := 12) hx hb dX7_bend_54 (by decide) ?_
        refine lv_iconst (v := 2) hx hb dX7_bend_56 (by decide) ?_
        refine lv_iload_n hx hb dX7_bend_57 rfl (lv_at hl 1 rfl) ?_
        refine zr_val (congrArg Value.int (z_nn hr0)) ?_
        refine W.eq (g2 := F0 m 58 ls [.int (nI ru.toNatClampNeg), .int 2, .int 12, .ref (ad 1)]) rfl ?_
        refine zr_imulN 2 ru.toNatClampNeg hx hb dX7_bend_58 ?_
        refine zr_iaddN 12 (2 * ru.toNatClampNeg) hx hb dX7_bend_59 ?_
        refine lv_iconst (v := 1) hx hb dX7_bend_60 (by decide) ?_
        refine zr_iaddN (12 + (2 * ru.toNatClampNeg)) 1 hx hb dX7_bend_61 ?_
        refine zr_val (v' := .int (nI (12 + (2 * ru.toNatClampNeg) + 1))) (by rfl) ?_
        refine lv_iload_n hx hb dX7_bend_62 rfl (lv_at hl 3 rfl) ?_
        refine zr_iast (12 + (2 * ru.toNatClampNeg) + 1) (ws' := (mW G ad m_status m_top m_bottom m_taped m_size m_token m_from m_end m_value m_faultKind m_faultPlace m_faults m_seen m_depth m_counted m_lead m_round m_tried m_triedMany m_drawn m_ranSteps m_isTold m_marks (upd (upd m_at (12 + (2 * ru.toNatClampNeg)) bo) (12 + (2 * ru.toNatClampNeg) + 1) sy) m_names m_sort m_trayMany m_trays m_tape m_text m_opened m_beside m_then m_ways m_further m_canBe m_loops m_ran m_told0)) hx hb hK hP hD hS 1 rfl rfl (Nat.le_of_ble_eq_true rfl) rfl (by omega) rfl dX7_bend_63 (fun H locs hP hD hS => ?_)
        refine lv_aload_n hx hb dX7_bend_64 rfl (lv_at hl 0 rfl) ?_
        refine lv_iconst (v := 0) hx hb dX7_bend_65 (by decide) ?_
        refine zr_muV (F := ()) (ff := fun _ => True) (rr := fun _ => some (.int (zb (decide ((0 : Int32) = 0))))) (w1 := fun _ => (mW G ad 0 m_top m_bottom m_taped m_size m_token m_from m_end m_value m_faultKind m_faultPlace m_faults m_seen m_depth m_counted m_lead m_round m_tried m_triedMany m_drawn m_ranSteps m_isTold m_marks (upd (upd m_at (12 + (2 * ru.toNatClampNeg)) bo) (12 + (2 * ru.toNatClampNeg) + 1) sy) m_names m_sort m_trayMany m_trays m_tape m_text m_opened m_beside m_then m_ways m_further m_canBe m_loops m_ran m_told0)) ⟨hx, hb, hml, hown, hts⟩ (mt_mf_is l G ad m_status m_top m_bottom m_taped m_size m_token m_from m_end m_value m_faultKind m_faultPlace m_faults m_seen m_depth m_counted m_lead m_round m_tried m_triedMany m_drawn m_ranSteps m_isTold m_marks (upd (upd m_at (12 + (2 * ru.toNatClampNeg)) bo) (12 + (2 * ru.toNatClampNeg) + 1) sy) m_names m_sort m_trayMany m_trays m_tape m_text m_opened m_beside m_then m_ways m_further m_canBe m_loops m_ran m_told0 0 H.size) (cwV 1 hts (lw_V q1604 q1606 qs60 q144 q1607) rfl rfl rfl hd_X7_is ⟨(Nat.le_of_ble_eq_true rfl), (Nat.le_of_ble_eq_true rfl)⟩) hP hD hS hA hK hE 0 7 rfl rfl rfl hl.1 rfl (Nat.le_of_ble_eq_true rfl) dX7_bend_66 ⟨Nat.le_refl _, Nat.le_refl _⟩ (fun _ _ _ H locs hP hD hS _ => ?_)
        refine W.eq (g2 := F0 m 69 ls [.int (zb (decide ((0 : Int32) = 0)))]) rfl ?_
        refine zr_val (v' := .int 1) (congrArg Value.int (by decide)) ?_
        have e_ : mf_bend m_at nr ru bo sy = (true, 0, upd (upd m_at (12 + (2 * ru.toNatClampNeg)) bo) (12 + (2 * ru.toNatClampNeg) + 1) sy) := by rw [mf_bend, if_pos c_1, if_pos c_3, if_pos c_5]
        exact zr_mz hx hb hr hlocks hP hD hS dX7_bend_69 rfl (by rw [e_]; rfl) (by rw [e_]) (by rw [e_]; exact (mOK_u (mOK_u hG (by omega)) (by omega)))
      · refine lv_aload_n hx hb dX7_bend_32 rfl (lv_at hl 0 rfl) ?_
        refine lv_iconst (v := 1) hx hb dX7_bend_33 (by decide) ?_
        refine zr_muV (F := ()) (ff := fun _ => True) (rr := fun _ => some (.int (zb (decide ((1 : Int32) = 0))))) (w1 := fun _ => (mW G ad 1 m_top m_bottom m_taped m_size m_token m_from m_end m_value m_faultKind m_faultPlace m_faults m_seen m_depth m_counted m_lead m_round m_tried m_triedMany m_drawn m_ranSteps m_isTold m_marks m_at m_names m_sort m_trayMany m_trays m_tape m_text m_opened m_beside m_then m_ways m_further m_canBe m_loops m_ran m_told0)) ⟨hx, hb, hml, hown, hts⟩ (mt_mf_is l G ad m_status m_top m_bottom m_taped m_size m_token m_from m_end m_value m_faultKind m_faultPlace m_faults m_seen m_depth m_counted m_lead m_round m_tried m_triedMany m_drawn m_ranSteps m_isTold m_marks m_at m_names m_sort m_trayMany m_trays m_tape m_text m_opened m_beside m_then m_ways m_further m_canBe m_loops m_ran m_told0 1 H.size) (cwV 1 hts (lw_V q1604 q1606 qs60 q144 q1607) rfl rfl rfl hd_X7_is ⟨(Nat.le_of_ble_eq_true rfl), (Nat.le_of_ble_eq_true rfl)⟩) hP hD hS hA hK hE 0 7 rfl rfl rfl hl.1 rfl (Nat.le_of_ble_eq_true rfl) dX7_bend_34 ⟨Nat.le_refl _, Nat.le_refl _⟩ (fun _ _ _ H locs hP hD hS _ => ?_)
        refine W.eq (g2 := F0 m 37 ls [.int (zb (decide ((1 : Int32) = 0)))]) rfl ?_
        refine zr_val (v' := .int 0) (congrArg Value.int (by decide)) ?_
        have e_ : mf_bend m_at nr ru bo sy = (false, 1, m_at) := by rw [mf_bend, if_pos c_1, if_pos c_3, if_neg c_5]
        exact zr_mz hx hb hr hlocks hP hD hS dX7_bend_37 rfl (by rw [e_]; rfl) (by rw [e_]) (by rw [e_]; exact hG)
def mf_goes_B24 (m_at : Nat → Int32) (Wd : Nat) (R : Nat) (t_1 : (Nat → Int32)) (k_2 : Nat) (s_2 : (Nat → Int32)) : (Nat → Int32) :=
  (if (((mf_free s_2) >>> ((nI k_2) &&& 31)) &&& 1) = 0 then
    s_2
  else
    upd s_2 ((32 + (5 * ((((s_2 3) >>> ((nI k_2) &&& 31)) &&& 1).toNatClampNeg))) + (zpc ((t_1 k_2) &&& (s_2 3)))) ((s_2 ((32 + (5 * ((((s_2 3) >>> ((nI k_2) &&& 31)) &&& 1).toNatClampNeg))) + (zpc ((t_1 k_2) &&& (s_2 3))))) ||| ((1 : Int32) <<< ((((mf_becomes m_at t_1 Wd R (m_at 3) (m_at 10)) >>> ((nI k_2) &&& 31)) &&& 1) &&& 31))))
def mf_goes_L24 (m_at : Nat → Int32) (Wd : Nat) (R : Nat) (t_1 : (Nat → Int32)) (s_2 : (Nat → Int32)) : (Nat → Int32) := zf (mf_goes_B24 m_at Wd R t_1) s_2 (Wd * R)
def mf_goes (m_at : Nat → Int32) (m_beside : Nat → Int32) (Wd : Nat) (R : Nat) : (Nat → Int32) × (Nat → Int32) :=
  zlet (mf_laysNear m_at m_beside Wd R) (fun t_1 =>
  zlet (mf_goes_L24 m_at Wd R t_1 m_at) (fun s_2 =>
  (upd (upd (upd s_2 8 ((s_2 8) + (nI (zpc (s_2 3))))) 3 (mf_becomes m_at t_1 Wd R (m_at 3) (m_at 10))) 7 ((s_2 7) + 1), t_1)))
theorem hd_X7_goes : yX7_goes.cls = RX7 ∧ yX7_goes.cls ≠ "java/lang/invoke/MethodHandle" ∧ yX7_goes.cls ≠ "java/lang/invoke/VarHandle" ∧ (parseMethodDescriptor yX7_goes.desc).map (fun d => d.parameters.length) = some 0 := by decide +kernel
set_option maxHeartbeats 4000000 in
set_option maxRecDepth 100000 in
theorem mt_mf_goes (l : Launch) (G : zG) (ad : Nat → Nat) (m_status : Int32) (m_top : Int64) (m_bottom : Int64) (m_taped : Int32) (m_size : Int32) (m_token : Int32) (m_from : Int32) (m_end : Int32) (m_value : Int32) (m_faultKind : Int32) (m_faultPlace : Int32) (m_faults : Int32) (m_seen : Int32) (m_depth : Int32) (m_counted : Int32) (m_lead : Int32) (m_round : Int32) (m_tried : Int32) (m_triedMany : Int32) (m_drawn : Int32) (m_ranSteps : Int32) (m_isTold : Bool) (m_marks : Int32) (m_at : Nat → Int32) (m_names : Nat → Int64) (m_sort : Nat → Int32) (m_trayMany : Nat → Int32) (m_trays : Nat → Int64) (m_tape : Nat → Int32) (m_text : Nat → Int32) (m_opened : Nat → Int32) (m_beside : Nat → Int32) (m_then : Nat → Int32) (m_ways : Nat → Int64) (m_further : Nat → Int64) (m_canBe : Nat → Int32) (m_loops : Nat → Int32) (m_ran : Nat → Int32) (m_told0 : Nat → Int32) (Wd : Nat) (R : Nat) (nr : Nat) (nc : Nat) (hG : mOK m_at Wd R nr nc) (sz : Nat) : Met l yX7_goes (ws_ yX7_goes cX7_goes 3 none) (zR 4 0 0) (zPm G sz [.ref (ad 0)] (mW G ad m_status m_top m_bottom m_taped m_size m_token m_from m_end m_value m_faultKind m_faultPlace m_faults m_seen m_depth m_counted m_lead m_round m_tried m_triedMany m_drawn m_ranSteps m_isTold m_marks m_at m_names m_sort m_trayMany m_trays m_tape m_text m_opened m_beside m_then m_ways m_further m_canBe m_loops m_ran m_told0)) (zQm G (mOK ((mf_goes m_at m_beside Wd R).1) Wd R nr nc) none (mW G ad m_status m_top m_bottom m_taped m_size m_token m_from m_end m_value m_faultKind m_faultPlace m_faults m_seen m_depth m_counted m_lead m_round m_tried m_triedMany m_drawn m_ranSteps m_isTold m_marks ((mf_goes m_at m_beside Wd R).1) m_names m_sort m_trayMany m_trays m_tape m_text m_opened ((mf_goes m_at m_beside Wd R).2) m_then m_ways m_further m_canBe m_loops m_ran m_told0) (va_A (mW G ad m_status m_top m_bottom m_taped m_size m_token m_from m_end m_value m_faultKind m_faultPlace m_faults m_seen m_depth m_counted m_lead m_round m_tried m_triedMany m_drawn m_ranSteps m_isTold m_marks m_at m_names m_sort m_trayMany m_trays m_tape m_text m_opened m_beside m_then m_ways m_further m_canBe m_loops m_ran m_told0) sz)) 0 0 (va_A (mW G ad m_status m_top m_bottom m_taped m_size m_token m_from m_end m_value m_faultKind m_faultPlace m_faults m_seen m_depth m_counted m_lead m_round m_tried m_triedMany m_drawn m_ranSteps m_isTold m_marks m_at m_names m_sort m_trayMany m_trays m_tape m_text m_opened m_beside m_then m_ways m_further m_canBe m_loops m_ran m_told0) sz) := by
  refine zr_entM (by decide) (Nat.le_of_ble_eq_true rfl) ?_
  intro p e s m below meth c ⟨hx, hb, hr, hml, hown, hts, hlocks, hnm⟩ ls hl hP hK A hE hA hD hS
  have hown : s.vm.findClass RX7 = some m.cls := hown
  have hl : lv_has ls 3 [(0, .ref (ad 0))] := hl
  obtain ⟨H, hH⟩ : ∃ H, H = s.heap := ⟨_, rfl⟩
  obtain ⟨locs, hlo⟩ : ∃ L : List Loc, L = [] := ⟨_, rfl⟩
  rw [← hH] at hP
  have hS : va_S A s.heap H locs := by rw [hH, hlo]; exact va_S.rf
  have hgo : W p l e (zR 4 0 0) s m ([.ref (ad 0)] : List Value).toArray below meth c H locs 0 0 (MQ below (zQm G (mOK ((mf_goes m_at m_beside Wd R).1) Wd R nr nc) none (mW G ad m_status m_top m_bottom m_taped m_size m_token m_from m_end m_value m_faultKind m_faultPlace m_faults m_seen m_depth m_counted m_lead m_round m_tried m_triedMany m_drawn m_ranSteps m_isTold m_marks ((mf_goes m_at m_beside Wd R).1) m_names m_sort m_trayMany m_trays m_tape m_text m_opened ((mf_goes m_at m_beside Wd R).2) m_then m_ways m_further m_canBe m_loops m_ran m_told0) A) ([.ref (ad 0)] : List Value).toArray s 0 0 A) (F0 m 0 ls []) := ?_
  · rw [hH, hlo] at hgo; exact hgo
  clear hH hlo
  have hWR := mOK_WR hG
  have hW0 := mOK_W0 hG
  have hW5 := mOK_W5 hG
  have hR0 := mOK_R0 hG
  have hR6 := mOK_R6 hG
  have hn4 := mOK_n4 hG
  have hc6 := mOK_c6 hG
  refine lv_aload_n hx hb dX7_goes_0 rfl (lv_at hl 0 rfl) ?_
  refine zr_muV (F := mf_laysNear m_at m_beside Wd R) (ff := fun t_1 => True) (rr := fun t_1 => none) (w1 := fun t_1 => (mW G ad m_status m_top m_bottom m_taped m_size m_token m_from m_end m_value m_faultKind m_faultPlace m_faults m_seen m_depth m_counted m_lead m_round m_tried m_triedMany m_drawn m_ranSteps m_isTold m_marks m_at m_names m_sort m_trayMany m_trays m_tape m_text m_opened t_1 m_then m_ways m_further m_canBe m_loops m_ran m_told0)) ⟨hx, hb, hml, hown, hts⟩ (mt_mf_laysNear l G ad m_status m_top m_bottom m_taped m_size m_token m_from m_end m_value m_faultKind m_faultPlace m_faults m_seen m_depth m_counted m_lead m_round m_tried m_triedMany m_drawn m_ranSteps m_isTold m_marks m_at m_names m_sort m_trayMany m_trays m_tape m_text m_opened m_beside m_then m_ways m_further m_canBe m_loops m_ran m_told0 Wd R nr nc hG H.size) (cwV 0 hts (lw_V q1889 q1891 qs105 q144 q1892) rfl rfl rfl hd_X7_laysNear ⟨(Nat.le_of_ble_eq_true rfl), (Nat.le_of_ble_eq_true rfl)⟩) hP hD hS hA hK hE 0 7 rfl rfl rfl hl.1 rfl (Nat.le_of_ble_eq_true rfl) dX7_goes_1 ⟨Nat.le_refl _, Nat.le_refl _⟩ (fun t_1 ht_1 hft_1 H locs hP hD hS _ => ?_)
  refine W.eq (g2 := F0 m 4 ls []) rfl ?_
  refine lv_aload_n hx hb dX7_goes_4 rfl (lv_at hl 0 rfl) ?_
  refine lv_aload_n hx hb dX7_goes_5 rfl (lv_at hl 0 rfl) ?_
  refine va_get (D := G.1) (ci := 7) (v := .ref (ad 1)) (C := RX7) (T := TX7) (N := 39) hx hb hts in_X7 hown hK.1 hP 0 rfl rfl 0 (Nat.le_of_ble_eq_true rfl) (hts _ q1467) (fun _ h => h) rfl dX7_goes_6 ?_
  refine lv_iconst (v := 3) hx hb dX7_goes_9 (by decide) ?_
  refine zr_iald 3 (v := m_at 3) hx hb hK hP 1 rfl rfl (Nat.le_of_ble_eq_true rfl) rfl (by decide) rfl dX7_goes_10 ?_
  refine lv_aload_n hx hb dX7_goes_11 rfl (lv_at hl 0 rfl) ?_
  refine va_get (D := G.1) (ci := 7) (v := .ref (ad 1)) (C := RX7) (T := TX7) (N := 39) hx hb hts in_X7 hown hK.1 hP 0 rfl rfl 0 (Nat.le_of_ble_eq_true rfl) (hts _ q1467) (fun _ h => h) rfl dX7_goes_12 ?_
  refine lv_bipush (v := 10) hx hb dX7_goes_15 (by decide) ?_
  refine zr_iald 10 (v := m_at 10) hx hb hK hP 1 rfl rfl (Nat.le_of_ble_eq_true rfl) rfl (by decide) rfl dX7_goes_17 ?_
  refine zr_obV ⟨hx, hb, hml, hown, hts⟩ (mt_mf_becomes l G ad m_status m_top m_bottom m_taped m_size m_token m_from m_end m_value m_faultKind m_faultPlace m_faults m_seen m_depth m_counted m_lead m_round m_tried m_triedMany m_drawn m_ranSteps m_isTold m_marks m_at m_names m_sort m_trayMany m_trays m_tape m_text m_opened t_1 m_then m_ways m_further m_canBe m_loops m_ran m_told0 Wd R nr nc (m_at 3) (m_at 10) hG (mOK_by hG)) (cwV 2 hts (lw_V q1893 q1895 qs106 q144 q1896) rfl rfl rfl hd_X7_becomes ⟨(Nat.le_of_ble_eq_true rfl), (Nat.le_of_ble_eq_true rfl)⟩) hP hK (zE_o hE hS) 0 7 rfl rfl rfl hl.1 rfl (Nat.le_of_ble_eq_true rfl) dX7_goes_18 ⟨Nat.le_refl _, Nat.le_refl _⟩ ?_
  refine lv_istore_n (lv' := [(1, .int (mf_becomes m_at t_1 Wd R (m_at 3) (m_at 10))), (0, .ref (ad 0))]) hx hb dX7_goes_21 rfl hl (by decide) rfl (fun ls hl => ?_)
  refine lv_iconst (v := 0) hx hb dX7_goes_22 (by decide) ?_
  refine lv_istore_n (lv' := [(2, .int 0), (1, .int (mf_becomes m_at t_1 Wd R (m_at 3) (m_at 10))), (0, .ref (ad 0))]) hx hb dX7_goes_23 rfl hl (by decide) rfl (fun ls hl => ?_)
  have hlp_2 : ∀ (n k_2 : Nat) (s_2 : (Nat → Int32)), k_2 ≤ Wd * R → Wd * R < k_2 + n → zf (mf_goes_B24 m_at Wd R t_1) m_at k_2 = s_2 → mOK s_2 Wd R nr nc → ∀ (H : Heap) (locs : List Loc), va_P G.1 zcl (mW G ad m_status m_top m_bottom m_taped m_size m_token m_from m_end m_value m_faultKind m_faultPlace m_faults m_seen m_depth m_counted m_lead m_round m_tried m_triedMany m_drawn m_ranSteps m_isTold m_marks s_2 m_names m_sort m_trayMany m_trays m_tape m_text m_opened t_1 m_then m_ways m_further m_canBe m_loops m_ran m_told0) H → va_D A (mW G ad m_status m_top m_bottom m_taped m_size m_token m_from m_end m_value m_faultKind m_faultPlace m_faults m_seen m_depth m_counted m_lead m_round m_tried m_triedMany m_drawn m_ranSteps m_isTold m_marks s_2 m_names m_sort m_trayMany m_trays m_tape m_text m_opened t_1 m_then m_ways m_further m_canBe m_loops m_ran m_told0) → va_S A s.heap H locs → ∀ ls : Array Slot, lv_has ls 3 [(2, .int (nI k_2)), (1, .int (mf_becomes m_at t_1 Wd R (m_at 3) (m_at 10))), (0, .ref (ad 0))] → W p l e (zR 4 0 0) s m ([.ref (ad 0)] : List Value).toArray below meth c H locs 0 0 (MQ below (zQm G (mOK ((mf_goes m_at m_beside Wd R).1) Wd R nr nc) none (mW G ad m_status m_top m_bottom m_taped m_size m_token m_from m_end m_value m_faultKind m_faultPlace m_faults m_seen m_depth m_counted m_lead m_round m_tried m_triedMany m_drawn m_ranSteps m_isTold m_marks ((mf_goes m_at m_beside Wd R).1) m_names m_sort m_trayMany m_trays m_tape m_text m_opened ((mf_goes m_at m_beside Wd R).2) m_then m_ways m_further m_canBe m_loops m_ran m_told0) A) ([.ref (ad 0)] : List Value).toArray s 0 0 A) (F0 m 24 ls []) := by
    intro n
    induction n with
    | zero => intro k_2 s_2 h1 h2; exact absurd h2 (by omega)
    | succ n ih_2 =>
      intro k_2 s_2 hk_2 hn_2 hst_2 ok_2_m_at H locs hP hD hS ls hl
      refine lv_iload_n hx hb dX7_goes_24 rfl (lv_at hl 0 rfl) ?_
      refine lv_aload_n hx hb dX7_goes_25 rfl (lv_at hl 2 rfl) ?_
      refine zr_obV ⟨hx, hb, hml, hown, hts⟩ (mt_mf_places l G ad m_status m_top m_bottom m_taped m_size m_token m_from m_end m_value m_faultKind m_faultPlace m_faults m_seen m_depth m_counted m_lead m_round m_tried m_triedMany m_drawn m_ranSteps m_isTold m_marks s_2 m_names m_sort m_trayMany m_trays m_tape m_text m_opened t_1 m_then m_ways m_further m_canBe m_loops m_ran m_told0 Wd R nr nc ok_2_m_at) (cwV 0 hts (lw_V q1815 q1817 qs97 q144 q1818) rfl rfl rfl hd_X7_places ⟨(Nat.le_of_ble_eq_true rfl), (Nat.le_of_ble_eq_true rfl)⟩) hP hK (zE_o hE hS) 0 7 rfl rfl rfl hl.1 rfl (Nat.le_of_ble_eq_true rfl) dX7_goes_26 ⟨Nat.le_refl _, Nat.le_refl _⟩ ?_
      refine zr_ge k_2 (Wd * R) (by omega) (by omega) (tgt := 99) hx hb dX7_goes_29 (by decide) (fun c_2 => ?_) (fun c_2 => ?_)
      · have ek_2 : k_2 = Wd * R := Nat.le_antisymm hk_2 c_2
        have hs_2 : mf_goes_L24 m_at Wd R t_1 m_at = s_2 := by rw [ek_2] at hst_2; exact hst_2
        have hl := lv_sub hl (l' := _) [1, 2] rfl
        refine lv_aload_n hx hb dX7_goes_99 rfl (lv_at hl 1 rfl) ?_
        refine va_get (D := G.1) (ci := 7) (v := .ref (ad 1)) (C := RX7) (T := TX7) (N := 39) hx hb hts in_X7 hown hK.1 hP 0 rfl rfl 0 (Nat.le_of_ble_eq_true rfl) (hts _ q1467) (fun _ h => h) rfl dX7_goes_100 ?_
        refine lv_bipush (v := 8) hx hb dX7_goes_103 (by decide) ?_
        refine lv_dup2_11 hx hb dX7_goes_105 rfl rfl ?_
        refine zr_iald 8 (v := s_2 8) hx hb hK hP 1 rfl rfl (Nat.le_of_ble_eq_true rfl) rfl (by decide) rfl dX7_goes_106 ?_
        refine lv_aload_n hx hb dX7_goes_107 rfl (lv_at hl 1 rfl) ?_
        refine va_get (D := G.1) (ci := 7) (v := .ref (ad 1)) (C := RX7) (T := TX7) (N := 39) hx hb hts in_X7 hown hK.1 hP 0 rfl rfl 0 (Nat.le_of_ble_eq_true rfl) (hts _ q1467) (fun _ h => h) rfl dX7_goes_108 ?_
        refine lv_iconst (v := 3) hx hb dX7_goes_111 (by decide) ?_
        refine zr_iald 3 (v := s_2 3) hx hb hK hP 1 rfl rfl (Nat.le_of_ble_eq_true rfl) rfl (by decide) rfl dX7_goes_112 ?_
        refine zr_puS ⟨hx, hb, hml, hown, hts⟩ (mt_bitsN l (s_2 3)) (va_cwS 1 hts (lw_S q1744 q1745 q144 q1746) rfl rfl rfl hd_X7_bits.2 ⟨(Nat.le_of_ble_eq_true rfl), (Nat.le_of_ble_eq_true rfl)⟩) rfl hl.1 rfl (Nat.le_of_ble_eq_true rfl) dX7_goes_113 ⟨Nat.le_refl _, Nat.le_refl _⟩ ?_
        refine lv_iadd hx hb dX7_goes_116 ?_
        refine zr_iast 8 (ws' := (mW G ad m_status m_top m_bottom m_taped m_size m_token m_from m_end m_value m_faultKind m_faultPlace m_faults m_seen m_depth m_counted m_lead m_round m_tried m_triedMany m_drawn m_ranSteps m_isTold m_marks (upd s_2 8 ((s_2 8) + (nI (zpc (s_2 3))))) m_names m_sort m_trayMany m_trays m_tape m_text m_opened t_1 m_then m_ways m_further m_canBe m_loops m_ran m_told0)) hx hb hK hP hD hS 1 rfl rfl (Nat.le_of_ble_eq_true rfl) rfl (by decide) rfl dX7_goes_117 (fun H locs hP hD hS => ?_)
        refine lv_aload_n hx hb dX7_goes_118 rfl (lv_at hl 1 rfl) ?_
        refine va_get (D := G.1) (ci := 7) (v := .ref (ad 1)) (C := RX7) (T := TX7) (N := 39) hx hb hts in_X7 hown hK.1 hP 0 rfl rfl 0 (Nat.le_of_ble_eq_true rfl) (hts _ q1467) (fun _ h => h) rfl dX7_goes_119 ?_
        refine lv_iconst (v := 3) hx hb dX7_goes_122 (by decide) ?_
        refine lv_iload_n hx hb dX7_goes_123 rfl (lv_at hl 0 rfl) ?_
        refine zr_iast 3 (ws' := (mW G ad m_status m_top m_bottom m_taped m_size m_token m_from m_end m_value m_faultKind m_faultPlace m_faults m_seen m_depth m_counted m_lead m_round m_tried m_triedMany m_drawn m_ranSteps m_isTold m_marks (upd (upd s_2 8 ((s_2 8) + (nI (zpc (s_2 3))))) 3 (mf_becomes m_at t_1 Wd R (m_at 3) (m_at 10))) m_names m_sort m_trayMany m_trays m_tape m_text m_opened t_1 m_then m_ways m_further m_canBe m_loops m_ran m_told0)) hx hb hK hP hD hS 1 rfl rfl (Nat.le_of_ble_eq_true rfl) rfl (by decide) rfl dX7_goes_124 (fun H locs hP hD hS => ?_)
        refine lv_aload_n hx hb dX7_goes_125 rfl (lv_at hl 1 rfl) ?_
        refine va_get (D := G.1) (ci := 7) (v := .ref (ad 1)) (C := RX7) (T := TX7) (N := 39) hx hb hts in_X7 hown hK.1 hP 0 rfl rfl 0 (Nat.le_of_ble_eq_true rfl) (hts _ q1467) (fun _ h => h) rfl dX7_goes_126 ?_
        refine lv_bipush (v := 7) hx hb dX7_goes_129 (by decide) ?_
        refine lv_dup2_11 hx hb dX7_goes_131 rfl rfl ?_
        refine zr_iald 7 (v := s_2 7) hx hb hK hP 1 rfl rfl (Nat.le_of_ble_eq_true rfl) rfl (by decide) rfl dX7_goes_132 ?_
        refine lv_iconst (v := 1) hx hb dX7_goes_133 (by decide) ?_
        refine lv_iadd hx hb dX7_goes_134 ?_
        refine zr_iast 7 (ws' := (mW G ad m_status m_top m_bottom m_taped m_size m_token m_from m_end m_value m_faultKind m_faultPlace m_faults m_seen m_depth m_counted m_lead m_round m_tried m_triedMany m_drawn m_ranSteps m_isTold m_marks (upd (upd (upd s_2 8 ((s_2 8) + (nI (zpc (s_2 3))))) 3 (mf_becomes m_at t_1 Wd R (m_at 3) (m_at 10))) 7 ((s_2 7) + 1)) m_names m_sort m_trayMany m_trays m_tape m_text m_opened t_1 m_then m_ways m_further m_canBe m_loops m_ran m_told0)) hx hb hK hP hD hS 1 rfl rfl (Nat.le_of_ble_eq_true rfl) rfl (by decide) rfl dX7_goes_135 (fun H locs hP hD hS => ?_)
        have e_ : mf_goes m_at m_beside Wd R = (upd (upd (upd s_2 8 ((s_2 8) + (nI (zpc (s_2 3))))) 3 (mf_becomes m_at t_1 Wd R (m_at 3) (m_at 10))) 7 ((s_2 7) + 1), t_1) := by rw [mf_goes, zlet_eq ht_1, zlet_eq hs_2]
        exact zr_mv hx hb hr hlocks hP hD hS dX7_goes_136 rfl (by rw [e_]) (by rw [e_]; exact (mOK_u (mOK_u (mOK_u ok_2_m_at (by omega)) (by omega)) (by omega)))
      · have hlt_2 : k_2 < Wd * R := Nat.lt_of_not_le c_2
        refine lv_aload_n hx hb dX7_goes_32 rfl (lv_at hl 2 rfl) ?_
        refine zr_obV ⟨hx, hb, hml, hown, hts⟩ (mt_mf_free l G ad m_status m_top m_bottom m_taped m_size m_token m_from m_end m_value m_faultKind m_faultPlace m_faults m_seen m_depth m_counted m_lead m_round m_tried m_triedMany m_drawn m_ranSteps m_isTold m_marks s_2 m_names m_sort m_trayMany m_trays m_tape m_text m_opened t_1 m_then m_ways m_further m_canBe m_loops m_ran m_told0) (cwV 0 hts (lw_V q1855 q1857 qs102 q144 q1858) rfl rfl rfl hd_X7_free ⟨(Nat.le_of_ble_eq_true rfl), (Nat.le_of_ble_eq_true rfl)⟩) hP hK (zE_o hE hS) 0 7 rfl rfl rfl hl.1 rfl (Nat.le_of_ble_eq_true rfl) dX7_goes_33 ⟨Nat.le_refl _, Nat.le_refl _⟩ ?_
        refine lv_iload_n hx hb dX7_goes_36 rfl (lv_at hl 0 rfl) ?_
        refine lv_ishr hx hb dX7_goes_37 ?_
        refine lv_iconst (v := 1) hx hb dX7_goes_38 (by decide) ?_
        refine lv_iand hx hb dX7_goes_39 ?_
        refine lv_if_ne (tgt := 46) hx hb dX7_goes_40 (by decide) (fun c_3 => ?_) (fun c_3 => ?_)
        · refine lv_aload_n hx hb dX7_goes_46 rfl (lv_at hl 2 rfl) ?_
          refine va_get (D := G.1) (ci := 7) (v := .ref (ad 1)) (C := RX7) (T := TX7) (N := 39) hx hb hts in_X7 hown hK.1 hP 0 rfl rfl 0 (Nat.le_of_ble_eq_true rfl) (hts _ q1467) (fun _ h => h) rfl dX7_goes_47 ?_
          refine lv_bipush (v := 32) hx hb dX7_goes_50 (by decide) ?_
          refine lv_iconst (v := 5) hx hb dX7_goes_52 (by decide) ?_
          refine lv_aload_n hx hb dX7_goes_53 rfl (lv_at hl 2 rfl) ?_
          refine va_get (D := G.1) (ci := 7) (v := .ref (ad 1)) (C := RX7) (T := TX7) (N := 39) hx hb hts in_X7 hown hK.1 hP 0 rfl rfl 0 (Nat.le_of_ble_eq_true rfl) (hts _ q1467) (fun _ h => h) rfl dX7_goes_54 ?_
          refine lv_iconst (v := 3) hx hb dX7_goes_57 (by decide) ?_
          refine zr_iald 3 (v := s_2 3) hx hb hK hP 1 rfl rfl (Nat.le_of_ble_eq_true rfl) rfl (by decide) rfl dX7_goes_58 ?_
          refine lv_iload_n hx hb dX7_goes_59 rfl (lv_at hl 0 rfl) ?_
          refine lv_ishr hx hb dX7_goes_60 ?_
          refine lv_iconst (v := 1) hx hb dX7_goes_61 (by decide) ?_
          refine lv_iand hx hb dX7_goes_62 ?_
          have hb1 : ((((s_2 3) >>> ((nI k_2) &&& 31)) &&& 1)).toNatClampNeg ≤ 1 := z_b1le _
          refine zr_val (congrArg Value.int (z_b1 _)) ?_
          refine W.eq (g2 := F0 m 63 ls [.int (nI ((((s_2 3) >>> ((nI k_2) &&& 31)) &&& 1).toNatClampNeg)), .int 5, .int 32, .ref (ad 1)]) rfl ?_
          refine zr_imulN 5 ((((s_2 3) >>> ((nI k_2) &&& 31)) &&& 1).toNatClampNeg) hx hb dX7_goes_63 ?_
          refine zr_iaddN 32 (5 * ((((s_2 3) >>> ((nI k_2) &&& 31)) &&& 1).toNatClampNeg)) hx hb dX7_goes_64 ?_
          refine lv_aload_n hx hb dX7_goes_65 rfl (lv_at hl 2 rfl) ?_
          refine va_get (D := G.1) (ci := 7) (v := .ref (ad 9)) (C := RX7) (T := TX7) (N := 39) hx hb hts in_X7 hown hK.1 hP 0 rfl rfl 23 (Nat.le_of_ble_eq_true rfl) (hts _ q1490) (fun _ h => h) rfl dX7_goes_66 ?_
          refine lv_iload_n hx hb dX7_goes_69 rfl (lv_at hl 0 rfl) ?_
          refine zr_iald k_2 (v := t_1 k_2) hx hb hK hP 9 rfl rfl (Nat.le_of_ble_eq_true rfl) rfl (by omega) rfl dX7_goes_70 ?_
          refine lv_aload_n hx hb dX7_goes_71 rfl (lv_at hl 2 rfl) ?_
          refine va_get (D := G.1) (ci := 7) (v := .ref (ad 1)) (C := RX7) (T := TX7) (N := 39) hx hb hts in_X7 hown hK.1 hP 0 rfl rfl 0 (Nat.le_of_ble_eq_true rfl) (hts _ q1467) (fun _ h => h) rfl dX7_goes_72 ?_
          refine lv_iconst (v := 3) hx hb dX7_goes_75 (by decide) ?_
          refine zr_iald 3 (v := s_2 3) hx hb hK hP 1 rfl rfl (Nat.le_of_ble_eq_true rfl) rfl (by decide) rfl dX7_goes_76 ?_
          refine lv_iand hx hb dX7_goes_77 ?_
          refine zr_puS ⟨hx, hb, hml, hown, hts⟩ (mt_bitsN l ((t_1 k_2) &&& (s_2 3))) (va_cwS 1 hts (lw_S q1744 q1745 q144 q1746) rfl rfl rfl hd_X7_bits.2 ⟨(Nat.le_of_ble_eq_true rfl), (Nat.le_of_ble_eq_true rfl)⟩) rfl hl.1 rfl (Nat.le_of_ble_eq_true rfl) dX7_goes_78 ⟨Nat.le_refl _, Nat.le_refl _⟩ ?_
          have hbl : (zpc ((t_1 k_2) &&& (s_2 3))) ≤ 32 := zpc_le _
          refine zr_iaddN (32 + (5 * ((((s_2 3) >>> ((nI k_2) &&& 31)) &&& 1).toNatClampNeg))) (zpc ((t_1 k_2) &&& (s_2 3))) hx hb dX7_goes_81 ?_
          refine lv_dup2_11 hx hb dX7_goes_82 rfl rfl ?_
          refine zr_iald ((32 + (5 * ((((s_2 3) >>> ((nI k_2) &&& 31)) &&& 1).toNatClampNeg))) + (zpc ((t_1 k_2) &&& (s_2 3)))) (v := s_2 ((32 + (5 * ((((s_2 3) >>> ((nI k_2) &&& 31)) &&& 1).toNatClampNeg))) + (zpc ((t_1 k_2) &&& (s_2 3))))) hx hb hK hP 1 rfl rfl (Nat.le_of_ble_eq_true rfl) rfl (by omega) rfl dX7_goes_83 ?_
          refine lv_iconst (v := 1) hx hb dX7_goes_84 (by decide) ?_
          refine lv_iload_n hx hb dX7_goes_85 rfl (lv_at hl 1 rfl) ?_
          refine lv_iload_n hx hb dX7_goes_86 rfl (lv_at hl 0 rfl) ?_
          refine lv_ishr hx hb dX7_goes_87 ?_
          refine lv_iconst (v := 1) hx hb dX7_goes_88 (by decide) ?_
          refine lv_iand hx hb dX7_goes_89 ?_
          refine lv_ishl hx hb dX7_goes_90 ?_
          refine lv_ior hx hb dX7_goes_91 ?_
          refine zr_iast ((32 + (5 * ((((s_2 3) >>> ((nI k_2) &&& 31)) &&& 1).toNatClampNeg))) + (zpc ((t_1 k_2) &&& (s_2 3)))) (ws' := (mW G ad m_status m_top m_bottom m_taped m_size m_token m_from m_end m_value m_faultKind m_faultPlace m_faults m_seen m_depth m_counted m_lead m_round m_tried m_triedMany m_drawn m_ranSteps m_isTold m_marks (upd s_2 ((32 + (5 * ((((s_2 3) >>> ((nI k_2) &&& 31)) &&& 1).toNatClampNeg))) + (zpc ((t_1 k_2) &&& (s_2 3)))) ((s_2 ((32 + (5 * ((((s_2 3) >>> ((nI k_2) &&& 31)) &&& 1).toNatClampNeg))) + (zpc ((t_1 k_2) &&& (s_2 3))))) ||| ((1 : Int32) <<< ((((mf_becomes m_at t_1 Wd R (m_at 3) (m_at 10)) >>> ((nI k_2) &&& 31)) &&& 1) &&& 31)))) m_names m_sort m_trayMany m_trays m_tape m_text m_opened t_1 m_then m_ways m_further m_canBe m_loops m_ran m_told0)) hx hb hK hP hD hS 1 rfl rfl (Nat.le_of_ble_eq_true rfl) rfl (by omega) rfl dX7_goes_92 (fun H locs hP hD hS => ?_)
          refine lv_iinc (v := nI (k_2 + 1)) (lv' := [(2, .int (nI (k_2 + 1))), (1, .int (mf_becomes m_at t_1 Wd R (m_at 3) (m_at 10))), (0, .ref (ad 0))]) hx hb dX7_goes_93 hl (k := 0) rfl (nI_add k_2 1) (by decide) rfl (fun ls hl => ?_)
          refine lv_goto (tgt := 24) hx hb dX7_goes_96 (by decide) ?_
          exact ih_2 (k_2 + 1) (upd s_2 ((32 + (5 * ((((s_2 3) >>> ((nI k_2) &&& 31)) &&& 1).toNatClampNeg))) + (zpc ((t_1 k_2) &&& (s_2 3)))) ((s_2 ((32 + (5 * ((((s_2 3) >>> ((nI k_2) &&& 31)) &&& 1).toNatClampNeg))) + (zpc ((t_1 k_2) &&& (s_2 3))))) ||| ((1 : Int32) <<< ((((mf_becomes m_at t_1 Wd R (m_at 3) (m_at 10)) >>> ((nI k_2) &&& 31)) &&& 1) &&& 31)))) hlt_2 (by omega) (zf_s hst_2 (by rw [mf_goes_B24, if_neg c_3])) (mOK_u ok_2_m_at (by omega)) H locs hP hD hS ls (lv_sub hl [0, 1, 2] rfl)
        · refine lv_goto (tgt := 93) hx hb dX7_goes_43 (by decide) ?_
          refine lv_iinc (v := nI (k_2 + 1)) (lv' := [(2, .int (nI (k_2 + 1))), (1, .int (mf_becomes m_at t_1 Wd R (m_at 3) (m_at 10))), (0, .ref (ad 0))]) hx hb dX7_goes_93 hl (k := 0) rfl (nI_add k_2 1) (by decide) rfl (fun ls hl => ?_)
          refine lv_goto (tgt := 24) hx hb dX7_goes_96 (by decide) ?_
          exact ih_2 (k_2 + 1) s_2 hlt_2 (by omega) (zf_s hst_2 (by rw [mf_goes_B24, if_pos c_3])) ok_2_m_at H locs hP hD hS ls (lv_sub hl [0, 1, 2] rfl)
  exact hlp_2 ((Wd * R) + 1) 0 m_at (Nat.zero_le _) (by omega) rfl hG H locs hP hD hS ls (lv_sub hl [0, 1, 2] rfl)
def mf_night_B20 (Wd : Nat) (R : Nat) (many : Int32) (k_2 : Nat) (s_2 : (Nat → Int32) × (Nat → Int32)) : (Nat → Int32) × (Nat → Int32) :=
  zlet (mf_goes s_2.1 s_2.2 Wd R) (fun t_3 =>
  (t_3.1, t_3.2))
def mf_night_L20 (Wd : Nat) (R : Nat) (many : Int32) (s_2 : (Nat → Int32) × (Nat → Int32)) : (Nat → Int32) × (Nat → Int32) := zf (mf_night_B20 Wd R many) s_2 many.toNatClampNeg
def mf_night (m_at : Nat → Int32) (m_beside : Nat → Int32) (Wd : Nat) (R : Nat) (many : Int32) : Int32 × Int32 × (Nat → Int32) × (Nat → Int32) :=
  (if (mf_isFrom many.toInt64 1 999) = true then
    zlet (mf_night_L20 Wd R many (m_at, m_beside)) (fun s_2 =>
    (nI (zpc (s_2.1 3)), 0, s_2.1, s_2.2))
  else
    ((-1), 1, m_at, m_beside))
theorem hd_X7_night : yX7_night.cls = RX7 ∧ yX7_night.cls ≠ "java/lang/invoke/MethodHandle" ∧ yX7_night.cls ≠ "java/lang/invoke/VarHandle" ∧ (parseMethodDescriptor yX7_night.desc).map (fun d => d.parameters.length) = some 1 := by decide +kernel
set_option maxHeartbeats 4000000 in
set_option maxRecDepth 100000 in
theorem mt_mf_night (l : Launch) (G : zG) (ad : Nat → Nat) (m_status : Int32) (m_top : Int64) (m_bottom : Int64) (m_taped : Int32) (m_size : Int32) (m_token : Int32) (m_from : Int32) (m_end : Int32) (m_value : Int32) (m_faultKind : Int32) (m_faultPlace : Int32) (m_faults : Int32) (m_seen : Int32) (m_depth : Int32) (m_counted : Int32) (m_lead : Int32) (m_round : Int32) (m_tried : Int32) (m_triedMany : Int32) (m_drawn : Int32) (m_ranSteps : Int32) (m_isTold : Bool) (m_marks : Int32) (m_at : Nat → Int32) (m_names : Nat → Int64) (m_sort : Nat → Int32) (m_trayMany : Nat → Int32) (m_trays : Nat → Int64) (m_tape : Nat → Int32) (m_text : Nat → Int32) (m_opened : Nat → Int32) (m_beside : Nat → Int32) (m_then : Nat → Int32) (m_ways : Nat → Int64) (m_further : Nat → Int64) (m_canBe : Nat → Int32) (m_loops : Nat → Int32) (m_ran : Nat → Int32) (m_told0 : Nat → Int32) (Wd : Nat) (R : Nat) (nr : Nat) (nc : Nat) (many : Int32) (hG : mOK m_at Wd R nr nc) (sz : Nat) : Met l yX7_night (ws_ yX7_night cX7_night 3 (some .int)) (zR 5 0 0) (zPm G sz [.ref (ad 0), .int many] (mW G ad m_status m_top m_bottom m_taped m_size m_token m_from m_end m_value m_faultKind m_faultPlace m_faults m_seen m_depth m_counted m_lead m_round m_tried m_triedMany m_drawn m_ranSteps m_isTold m_marks m_at m_names m_sort m_trayMany m_trays m_tape m_text m_opened m_beside m_then m_ways m_further m_canBe m_loops m_ran m_told0)) (zQm G (mOK ((mf_night m_at m_beside Wd R many).2.2.1) Wd R nr nc) (some (.int ((mf_night m_at m_beside Wd R many).1))) (mW G ad ((mf_night m_at m_beside Wd R many).2.1) m_top m_bottom m_taped m_size m_token m_from m_end m_value m_faultKind m_faultPlace m_faults m_seen m_depth m_counted m_lead m_round m_tried m_triedMany m_drawn m_ranSteps m_isTold m_marks ((mf_night m_at m_beside Wd R many).2.2.1) m_names m_sort m_trayMany m_trays m_tape m_text m_opened ((mf_night m_at m_beside Wd R many).2.2.2) m_then m_ways m_further m_canBe m_loops m_ran m_told0) (va_A (mW G ad m_status m_top m_bottom m_taped m_size m_token m_from m_end m_value m_faultKind m_faultPlace m_faults m_seen m_depth m_counted m_lead m_round m_tried m_triedMany m_drawn m_ranSteps m_isTold m_marks m_at m_names m_sort m_trayMany m_trays m_tape m_text m_opened m_beside m_then m_ways m_further m_canBe m_loops m_ran m_told0) sz)) 0 0 (va_A (mW G ad m_status m_top m_bottom m_taped m_size m_token m_from m_end m_value m_faultKind m_faultPlace m_faults m_seen m_depth m_counted m_lead m_round m_tried m_triedMany m_drawn m_ranSteps m_isTold m_marks m_at m_names m_sort m_trayMany m_trays m_tape m_text m_opened m_beside m_then m_ways m_further m_canBe m_loops m_ran m_told0) sz) := by
  refine zr_entM (by decide) (Nat.le_of_ble_eq_true rfl) ?_
  intro p e s m below meth c ⟨hx, hb, hr, hml, hown, hts, hlocks, hnm⟩ ls hl hP hK A hE hA hD hS
  have hown : s.vm.findClass RX7 = some m.cls := hown
  have hl : lv_has ls 3 [(0, .ref (ad 0)), (1, .int many)] := hl
  obtain ⟨H, hH⟩ : ∃ H, H = s.heap := ⟨_, rfl⟩
  obtain ⟨locs, hlo⟩ : ∃ L : List Loc, L = [] := ⟨_, rfl⟩
  rw [← hH] at hP
  have hS : va_S A s.heap H locs := by rw [hH, hlo]; exact va_S.rf
  have hgo : W p l e (zR 5 0 0) s m ([.ref (ad 0), .int many] : List Value).toArray below meth c H locs 0 0 (MQ below (zQm G (mOK ((mf_night m_at m_beside Wd R many).2.2.1) Wd R nr nc) (some (.int ((mf_night m_at m_beside Wd R many).1))) (mW G ad ((mf_night m_at m_beside Wd R many).2.1) m_top m_bottom m_taped m_size m_token m_from m_end m_value m_faultKind m_faultPlace m_faults m_seen m_depth m_counted m_lead m_round m_tried m_triedMany m_drawn m_ranSteps m_isTold m_marks ((mf_night m_at m_beside Wd R many).2.2.1) m_names m_sort m_trayMany m_trays m_tape m_text m_opened ((mf_night m_at m_beside Wd R many).2.2.2) m_then m_ways m_further m_canBe m_loops m_ran m_told0) A) ([.ref (ad 0), .int many] : List Value).toArray s 0 0 A) (F0 m 0 ls []) := ?_
  · rw [hH, hlo] at hgo; exact hgo
  clear hH hlo
  have hWR := mOK_WR hG
  have hW0 := mOK_W0 hG
  have hW5 := mOK_W5 hG
  have hR0 := mOK_R0 hG
  have hR6 := mOK_R6 hG
  have hn4 := mOK_n4 hG
  have hc6 := mOK_c6 hG
  refine lv_iload_n hx hb dX7_night_0 rfl (lv_at hl 1 rfl) ?_
  refine lv_i2l hx hb dX7_night_1 rfl ?_
  refine lv_lconst (v := 1) hx hb dX7_night_2 rfl ?_
  refine lv_ldc2 (v := 999) hx hb hown (hts _ q1884) dX7_night_3 ?_
  refine zr_puS ⟨hx, hb, hml, hown, hts⟩ (mt_mf_isFrom l many.toInt64 1 999) (va_cwS 3 hts (lw_S q1848 q1849 q144 q1850) rfl rfl rfl hd_X7_isFrom.2 ⟨(Nat.le_of_ble_eq_true rfl), (Nat.le_of_ble_eq_true rfl)⟩) rfl hl.1 rfl (Nat.le_of_ble_eq_true rfl) dX7_night_6 ⟨Nat.le_refl _, Nat.le_refl _⟩ ?_
  refine zr_neB (mf_isFrom many.toInt64 1 999) (tgt := 18) hx hb dX7_night_9 (by decide) (fun c_1 => ?_) (fun c_1 => ?_)
  · obtain ⟨hm0, hm1, hm2⟩ := isFrom_t (a := 1) (N := 999) (by decide) (by decide) c_1
    have hl : lv_has ls 3 [(0, .ref (ad 0)), (1, .int (nI many.toNatClampNeg))] := by rw [← (z_nn hm0 : many = nI many.toNatClampNeg)]; exact hl
    refine lv_iconst (v := 0) hx hb dX7_night_18 (by decide) ?_
    refine lv_istore_n (lv' := [(2, .int 0), (0, .ref (ad 0)), (1, .int (nI many.toNatClampNeg))]) hx hb dX7_night_19 rfl hl (by decide) rfl (fun ls hl => ?_)
    have hlp_2 : ∀ (n k_2 : Nat) (s_2 : (Nat → Int32) × (Nat → Int32)), k_2 ≤ many.toNatClampNeg → many.toNatClampNeg < k_2 + n → zf (mf_night_B20 Wd R many) (m_at, m_beside) k_2 = s_2 → mOK s_2.1 Wd R nr nc → ∀ (H : Heap) (locs : List Loc), va_P G.1 zcl (mW G ad m_status m_top m_bottom m_taped m_size m_token m_from m_end m_value m_faultKind m_faultPlace m_faults m_seen m_depth m_counted m_lead m_round m_tried m_triedMany m_drawn m_ranSteps m_isTold m_marks s_2.1 m_names m_sort m_trayMany m_trays m_tape m_text m_opened s_2.2 m_then m_ways m_further m_canBe m_loops m_ran m_told0) H → va_D A (mW G ad m_status m_top m_bottom m_taped m_size m_token m_from m_end m_value m_faultKind m_faultPlace m_faults m_seen m_depth m_counted m_lead m_round m_tried m_triedMany m_drawn m_ranSteps m_isTold m_marks s_2.1 m_names m_sort m_trayMany m_trays m_tape m_text m_opened s_2.2 m_then m_ways m_further m_canBe m_loops m_ran m_told0) → va_S A s.heap H locs → ∀ ls : Array Slot, lv_has ls 3 [(2, .int (nI k_2)), (0, .ref (ad 0)), (1, .int (nI many.toNatClampNeg))] → W p l e (zR 5 0 0) s m ([.ref (ad 0), .int many] : List Value).toArray below meth c H locs 0 0 (MQ below (zQm G (mOK ((mf_night m_at m_beside Wd R many).2.2.1) Wd R nr nc) (some (.int ((mf_night m_at m_beside Wd R many).1))) (mW G ad ((mf_night m_at m_beside Wd R many).2.1) m_top m_bottom m_taped m_size m_token m_from m_end m_value m_faultKind m_faultPlace m_faults m_seen m_depth m_counted m_lead m_round m_tried m_triedMany m_drawn m_ranSteps m_isTold m_marks ((mf_night m_at m_beside Wd R many).2.2.1) m_names m_sort m_trayMany m_trays m_tape m_text m_opened ((mf_night m_at m_beside Wd R many).2.2.2) m_then m_ways m_further m_canBe m_loops m_ran m_told0) A) ([.ref (ad 0), .int many] : List Value).toArray s 0 0 A) (F0 m 20 ls []) := by
      intro n
      induction n with
      | zero => intro k_2 s_2 h1 h2; exact absurd h2 (by omega)
      | succ n ih_2 =>
        intro k_2 s_2 hk_2 hn_2 hst_2 ok_2_m_at H locs hP hD hS ls hl
        refine lv_iload_n hx hb dX7_night_20 rfl (lv_at hl 0 rfl) ?_
        refine lv_iload_n hx hb dX7_night_21 rfl (lv_at hl 2 rfl) ?_
        refine zr_ge k_2 many.toNatClampNeg (by omega) (by omega) (tgt := 35) hx hb dX7_night_22 (by decide) (fun c_2 => ?_) (fun c_2 => ?_)
        · have ek_2 : k_2 = many.toNatClampNeg := Nat.le_antisymm hk_2 c_2
          have hs_2 : mf_night_L20 Wd R many (m_at, m_beside) = s_2 := by rw [ek_2] at hst_2; exact hst_2
          have hl := lv_sub hl (l' := _) [1, 2] rfl
          refine lv_aload_n hx hb dX7_night_35 rfl (lv_at hl 0 rfl) ?_
          refine lv_aload_n hx hb dX7_night_36 rfl (lv_at hl 0 rfl) ?_
          refine va_get (D := G.1) (ci := 7) (v := .ref (ad 1)) (C := RX7) (T := TX7) (N := 39) hx hb hts in_X7 hown hK.1 hP 0 rfl rfl 0 (Nat.le_of_ble_eq_true rfl) (hts _ q1467) (fun _ h => h) rfl dX7_night_37 ?_
          refine lv_iconst (v := 3) hx hb dX7_night_40 (by decide) ?_
          refine zr_iald 3 (v := s_2.1 3) hx hb hK hP 1 rfl rfl (Nat.le_of_ble_eq_true rfl) rfl (by decide) rfl dX7_night_41 ?_
          refine zr_puS ⟨hx, hb, hml, hown, hts⟩ (mt_bitsN l (s_2.1 3)) (va_cwS 1 hts (lw_S q1744 q1745 q144 q1746) rfl rfl rfl hd_X7_bits.2 ⟨(Nat.le_of_ble_eq_true rfl), (Nat.le_of_ble_eq_true rfl)⟩) rfl hl.1 rfl (Nat.le_of_ble_eq_true rfl) dX7_night_42 ⟨Nat.le_refl _, Nat.le_refl _⟩ ?_
          refine zr_muV (F := ()) (ff := fun _ => True) (rr := fun _ => some (.int (nI (zpc (s_2.1 3))))) (w1 := fun _ => (mW G ad 0 m_top m_bottom m_taped m_size m_token m_from m_end m_value m_faultKind m_faultPlace m_faults m_seen m_depth m_counted m_lead m_round m_tried m_triedMany m_drawn m_ranSteps m_isTold m_marks s_2.1 m_names m_sort m_trayMany m_trays m_tape m_text m_opened s_2.2 m_then m_ways m_further m_canBe m_loops m_ran m_told0)) ⟨hx, hb, hml, hown, hts⟩ (mt_mf_gives l G ad m_status m_top m_bottom m_taped m_size m_token m_from m_end m_value m_faultKind m_faultPlace m_faults m_seen m_depth m_counted m_lead m_round m_tried m_triedMany m_drawn m_ranSteps m_isTold m_marks s_2.1 m_names m_sort m_trayMany m_trays m_tape m_text m_opened s_2.2 m_then m_ways m_further m_canBe m_loops m_ran m_told0 (nI (zpc (s_2.1 3))) H.size) (cwV 1 hts (lw_V q1751 q1753 qs85 q144 q1754) rfl rfl rfl hd_X7_gives ⟨(Nat.le_of_ble_eq_true rfl), (Nat.le_of_ble_eq_true rfl)⟩) hP hD hS hA hK hE 0 7 rfl rfl rfl hl.1 rfl (Nat.le_of_ble_eq_true rfl) dX7_night_45 ⟨Nat.le_refl _, Nat.le_refl _⟩ (fun _ _ _ H locs hP hD hS _ => ?_)
          refine W.eq (g2 := F0 m 48 ls [.int (nI (zpc (s_2.1 3)))]) rfl ?_
          have e_ : mf_night m_at m_beside Wd R many = (nI (zpc (s_2.1 3)), 0, s_2.1, s_2.2) := by rw [mf_night, if_pos c_1, zlet_eq hs_2]
          exact zr_mi hx hb hr hlocks hP hD hS dX7_night_48 (by rw [e_])  (by rw [e_]) (by rw [e_]; exact ok_2_m_at)
        · have hlt_2 : k_2 < many.toNatClampNeg := Nat.lt_of_not_le c_2
          refine lv_aload_n hx hb dX7_night_25 rfl (lv_at hl 1 rfl) ?_
          refine zr_muV (F := mf_goes s_2.1 s_2.2 Wd R) (ff := fun t_3 => mOK t_3.1 Wd R nr nc) (rr := fun t_3 => none) (w1 := fun t_3 => (mW G ad m_status m_top m_bottom m_taped m_size m_token m_from m_end m_value m_faultKind m_faultPlace m_faults m_seen m_depth m_counted m_lead m_round m_tried m_triedMany m_drawn m_ranSteps m_isTold m_marks t_3.1 m_names m_sort m_trayMany m_trays m_tape m_text m_opened t_3.2 m_then m_ways m_further m_canBe m_loops m_ran m_told0)) ⟨hx, hb, hml, hown, hts⟩ (mt_mf_goes l G ad m_status m_top m_bottom m_taped m_size m_token m_from m_end m_value m_faultKind m_faultPlace m_faults m_seen m_depth m_counted m_lead m_round m_tried m_triedMany m_drawn m_ranSteps m_isTold m_marks s_2.1 m_names m_sort m_trayMany m_trays m_tape m_text m_opened s_2.2 m_then m_ways m_further m_canBe m_loops m_ran m_told0 Wd R nr nc ok_2_m_at H.size) (cwV 0 hts (lw_V q1885 q1887 qs104 q144 q1888) rfl rfl rfl hd_X7_goes ⟨(Nat.le_of_ble_eq_true rfl), (Nat.le_of_ble_eq_true rfl)⟩) hP hD hS hA hK hE 0 7 rfl rfl rfl hl.1 rfl (Nat.le_of_ble_eq_true rfl) dX7_night_26 ⟨Nat.le_refl _, Nat.le_refl _⟩ (fun t_3 ht_3 hft_3 H locs hP hD hS _ => ?_)
          refine W.eq (g2 := F0 m 29 ls []) rfl ?_
          have ok_m_at_t_3 := hft_3
          refine lv_iinc (v := nI (k_2 + 1)) (lv' := [(2, .int (nI (k_2 + 1))), (0, .ref (ad 0)), (1, .int (nI many.toNatClampNeg))]) hx hb dX7_night_29 hl (k := 0) rfl (nI_add k_2 1) (by decide) rfl (fun ls hl => ?_)
          refine lv_goto (tgt := 20) hx hb dX7_night_32 (by decide) ?_
          exact ih_2 (k_2 + 1) (t_3.1, t_3.2) hlt_2 (by omega) (zf_s hst_2 (by rw [mf_night_B20, zlet_eq ht_3])) ok_m_at_t_3 H locs hP hD hS ls (lv_sub hl [0, 1, 2] rfl)
    exact hlp_2 (many.toNatClampNeg + 1) 0 (m_at, m_beside) (Nat.zero_le _) (by omega) rfl hG H locs hP hD hS ls (lv_sub hl [0, 1, 2] rfl)
  · refine lv_aload_n hx hb dX7_night_12 rfl (lv_at hl 0 rfl) ?_
    refine lv_iconst (v := 1) hx hb dX7_night_13 (by decide) ?_
    refine zr_muV (F := ()) (ff := fun _ => True) (rr := fun _ => some (.int (-1))) (w1 := fun _ => (mW G ad 1 m_top m_bottom m_taped m_size m_token m_from m_end m_value m_faultKind m_faultPlace m_faults m_seen m_depth m_counted m_lead m_round m_tried m_triedMany m_drawn m_ranSteps m_isTold m_marks m_at m_names m_sort m_trayMany m_trays m_tape m_text m_opened m_beside m_then m_ways m_further m_canBe m_loops m_ran m_told0)) ⟨hx, hb, hml, hown, hts⟩ (mt_mf_refuse l G ad m_status m_top m_bottom m_taped m_size m_token m_from m_end m_value m_faultKind m_faultPlace m_faults m_seen m_depth m_counted m_lead m_round m_tried m_triedMany m_drawn m_ranSteps m_isTold m_marks m_at m_names m_sort m_trayMany m_trays m_tape m_text m_opened m_beside m_then m_ways m_further m_canBe m_loops m_ran m_told0 1 H.size) (cwV 1 hts (lw_V q1666 q1668 qs66 q144 q1669) rfl rfl rfl hd_X7_refuse ⟨(Nat.le_of_ble_eq_true rfl), (Nat.le_of_ble_eq_true rfl)⟩) hP hD hS hA hK hE 0 7 rfl rfl rfl hl.1 rfl (Nat.le_of_ble_eq_true rfl) dX7_night_14 ⟨Nat.le_refl _, Nat.le_refl _⟩ (fun _ _ _ H locs hP hD hS _ => ?_)
    refine W.eq (g2 := F0 m 17 ls [.int (-1)]) rfl ?_
    have e_ : mf_night m_at m_beside Wd R many = ((-1), 1, m_at, m_beside) := by rw [mf_night, if_neg c_1]
    exact zr_mi hx hb hr hlocks hP hD hS dX7_night_17 (by rw [e_])  (by rw [e_]) (by rw [e_]; exact hG)
def mf_ahead (m_at : Nat → Int32) (m_beside : Nat → Int32) (Wd : Nat) (R : Nat) (nights : Int32) : Int64 × Int32 × (Nat → Int32) :=
  (if (mf_isFrom nights.toInt64 0 999) = true then
    zlet (mf_after m_at m_beside Wd R (m_at 3) nights.toNatClampNeg) (fun t_3 =>
    (t_3.1.toInt64, 0, t_3.2))
  else
    ((-1), 1, m_beside))
theorem hd_X7_ahead : yX7_ahead.cls = RX7 ∧ yX7_ahead.cls ≠ "java/lang/invoke/MethodHandle" ∧ yX7_ahead.cls ≠ "java/lang/invoke/VarHandle" ∧ (parseMethodDescriptor yX7_ahead.desc).map (fun d => d.parameters.length) = some 1 := by decide +kernel
set_option maxHeartbeats 4000000 in
set_option maxRecDepth 100000 in
theorem mt_mf_ahead (l : Launch) (G : zG) (ad : Nat → Nat) (m_status : Int32) (m_top : Int64) (m_bottom : Int64) (m_taped : Int32) (m_size : Int32) (m_token : Int32) (m_from : Int32) (m_end : Int32) (m_value : Int32) (m_faultKind : Int32) (m_faultPlace : Int32) (m_faults : Int32) (m_seen : Int32) (m_depth : Int32) (m_counted : Int32) (m_lead : Int32) (m_round : Int32) (m_tried : Int32) (m_triedMany : Int32) (m_drawn : Int32) (m_ranSteps : Int32) (m_isTold : Bool) (m_marks : Int32) (m_at : Nat → Int32) (m_names : Nat → Int64) (m_sort : Nat → Int32) (m_trayMany : Nat → Int32) (m_trays : Nat → Int64) (m_tape : Nat → Int32) (m_text : Nat → Int32) (m_opened : Nat → Int32) (m_beside : Nat → Int32) (m_then : Nat → Int32) (m_ways : Nat → Int64) (m_further : Nat → Int64) (m_canBe : Nat → Int32) (m_loops : Nat → Int32) (m_ran : Nat → Int32) (m_told0 : Nat → Int32) (Wd : Nat) (R : Nat) (nr : Nat) (nc : Nat) (nights : Int32) (hG : mOK m_at Wd R nr nc) (sz : Nat) : Met l yX7_ahead (ws_ yX7_ahead cX7_ahead 2 (some .long)) (zR 5 0 0) (zPm G sz [.ref (ad 0), .int nights] (mW G ad m_status m_top m_bottom m_taped m_size m_token m_from m_end m_value m_faultKind m_faultPlace m_faults m_seen m_depth m_counted m_lead m_round m_tried m_triedMany m_drawn m_ranSteps m_isTold m_marks m_at m_names m_sort m_trayMany m_trays m_tape m_text m_opened m_beside m_then m_ways m_further m_canBe m_loops m_ran m_told0)) (zQm G (True) (some (.long ((mf_ahead m_at m_beside Wd R nights).1))) (mW G ad ((mf_ahead m_at m_beside Wd R nights).2.1) m_top m_bottom m_taped m_size m_token m_from m_end m_value m_faultKind m_faultPlace m_faults m_seen m_depth m_counted m_lead m_round m_tried m_triedMany m_drawn m_ranSteps m_isTold m_marks m_at m_names m_sort m_trayMany m_trays m_tape m_text m_opened ((mf_ahead m_at m_beside Wd R nights).2.2) m_then m_ways m_further m_canBe m_loops m_ran m_told0) (va_A (mW G ad m_status m_top m_bottom m_taped m_size m_token m_from m_end m_value m_faultKind m_faultPlace m_faults m_seen m_depth m_counted m_lead m_round m_tried m_triedMany m_drawn m_ranSteps m_isTold m_marks m_at m_names m_sort m_trayMany m_trays m_tape m_text m_opened m_beside m_then m_ways m_further m_canBe m_loops m_ran m_told0) sz)) 0 0 (va_A (mW G ad m_status m_top m_bottom m_taped m_size m_token m_from m_end m_value m_faultKind m_faultPlace m_faults m_seen m_depth m_counted m_lead m_round m_tried m_triedMany m_drawn m_ranSteps m_isTold m_marks m_at m_names m_sort m_trayMany m_trays m_tape m_text m_opened m_beside m_then m_ways m_further m_canBe m_loops m_ran m_told0) sz) := by
  refine zr_entM (by decide) (Nat.le_of_ble_eq_true rfl) ?_
  intro p e s m below meth c ⟨hx, hb, hr, hml, hown, hts, hlocks, hnm⟩ ls hl hP hK A hE hA hD hS
  have hown : s.vm.findClass RX7 = some m.cls := hown
  have hl : lv_has ls 2 [(0, .ref (ad 0)), (1, .int nights)] := hl
  obtain ⟨H, hH⟩ : ∃ H, H = s.heap := ⟨_, rfl⟩
  obtain ⟨locs, hlo⟩ : ∃ L : List Loc, L = [] := ⟨_, rfl⟩
  rw [← hH] at hP
  have hS : va_S A s.heap H locs := by rw [hH, hlo]; exact va_S.rf
  have hgo : W p l e (zR 5 0 0) s m ([.ref (ad 0), .int nights] : List Value).toArray below meth c H locs 0 0 (MQ below (zQm G (True) (some (.long ((mf_ahead m_at m_beside Wd R nights).1))) (mW G ad ((mf_ahead m_at m_beside Wd R nights).2.1) m_top m_bottom m_taped m_size m_token m_from m_end m_value m_faultKind m_faultPlace m_faults m_seen m_depth m_counted m_lead m_round m_tried m_triedMany m_drawn m_ranSteps m_isTold m_marks m_at m_names m_sort m_trayMany m_trays m_tape m_text m_opened ((mf_ahead m_at m_beside Wd R nights).2.2) m_then m_ways m_further m_canBe m_loops m_ran m_told0) A) ([.ref (ad 0), .int nights] : List Value).toArray s 0 0 A) (F0 m 0 ls []) := ?_
  · rw [hH, hlo] at hgo; exact hgo
  clear hH hlo
  have hWR := mOK_WR hG
  have hW0 := mOK_W0 hG
  have hW5 := mOK_W5 hG
  have hR0 := mOK_R0 hG
  have hR6 := mOK_R6 hG
  have hn4 := mOK_n4 hG
  have hc6 := mOK_c6 hG
  refine lv_iload_n hx hb dX7_ahead_0 rfl (lv_at hl 1 rfl) ?_
  refine lv_i2l hx hb dX7_ahead_1 rfl ?_
  refine lv_lconst (v := 0) hx hb dX7_ahead_2 rfl ?_
  refine lv_ldc2 (v := 999) hx hb hown (hts _ q1884) dX7_ahead_3 ?_
  refine zr_puS ⟨hx, hb, hml, hown, hts⟩ (mt_mf_isFrom l nights.toInt64 0 999) (va_cwS 3 hts (lw_S q1848 q1849 q144 q1850) rfl rfl rfl hd_X7_isFrom.2 ⟨(Nat.le_of_ble_eq_true rfl), (Nat.le_of_ble_eq_true rfl)⟩) rfl hl.1 rfl (Nat.le_of_ble_eq_true rfl) dX7_ahead_6 ⟨Nat.le_refl _, Nat.le_refl _⟩ ?_
  refine zr_eqB (mf_isFrom nights.toInt64 0 999) (tgt := 31) hx hb dX7_ahead_9 (by decide) (fun c_1 => ?_) (fun c_1 => ?_)
  · refine lv_aload_n hx hb dX7_ahead_31 rfl (lv_at hl 0 rfl) ?_
    refine lv_iconst (v := 1) hx hb dX7_ahead_32 (by decide) ?_
    refine zr_muV (F := ()) (ff := fun _ => True) (rr := fun _ => some (.int (-1))) (w1 := fun _ => (mW G ad 1 m_top m_bottom m_taped m_size m_token m_from m_end m_value m_faultKind m_faultPlace m_faults m_seen m_depth m_counted m_lead m_round m_tried m_triedMany m_drawn m_ranSteps m_isTold m_marks m_at m_names m_sort m_trayMany m_trays m_tape m_text m_opened m_beside m_then m_ways m_further m_canBe m_loops m_ran m_told0)) ⟨hx, hb, hml, hown, hts⟩ (mt_mf_refuse l G ad m_status m_top m_bottom m_taped m_size m_token m_from m_end m_value m_faultKind m_faultPlace m_faults m_seen m_depth m_counted m_lead m_round m_tried m_triedMany m_drawn m_ranSteps m_isTold m_marks m_at m_names m_sort m_trayMany m_trays m_tape m_text m_opened m_beside m_then m_ways m_further m_canBe m_loops m_ran m_told0 1 H.size) (cwV 1 hts (lw_V q1666 q1668 qs66 q144 q1669) rfl rfl rfl hd_X7_refuse ⟨(Nat.le_of_ble_eq_true rfl), (Nat.le_of_ble_eq_true rfl)⟩) hP hD hS hA hK hE 0 7 rfl rfl rfl hl.1 rfl (Nat.le_of_ble_eq_true rfl) dX7_ahead_33 ⟨Nat.le_refl _, Nat.le_refl _⟩ (fun _ _ _ H locs hP hD hS _ => ?_)
    refine W.eq (g2 := F0 m 36 ls [.int (-1)]) rfl ?_
    refine lv_i2l (v := (-1)) hx hb dX7_ahead_36 (by decide) ?_
    have e_ : mf_ahead m_at m_beside Wd R nights = ((-1), 1, m_beside) := by rw [mf_ahead, if_neg c_1]
    exact zr_ml hx hb hr hlocks hP hD hS dX7_ahead_37 (by rw [e_])  (by rw [e_]) trivial
  · obtain ⟨hm0, hm1, hm2⟩ := isFrom_t (a := 0) (N := 999) (by decide) (by decide) c_1
    refine lv_aload_n hx hb dX7_ahead_12 rfl (lv_at hl 0 rfl) ?_
    refine lv_aload_n hx hb dX7_ahead_13 rfl (lv_at hl 0 rfl) ?_
    refine lv_aload_n hx hb dX7_ahead_14 rfl (lv_at hl 0 rfl) ?_
    refine va_get (D := G.1) (ci := 7) (v := .ref (ad 1)) (C := RX7) (T := TX7) (N := 39) hx hb hts in_X7 hown hK.1 hP 0 rfl rfl 0 (Nat.le_of_ble_eq_true rfl) (hts _ q1467) (fun _ h => h) rfl dX7_ahead_15 ?_
    refine lv_iconst (v := 3) hx hb dX7_ahead_18 (by decide) ?_
    refine zr_iald 3 (v := m_at 3) hx hb hK hP 1 rfl rfl (Nat.le_of_ble_eq_true rfl) rfl (by decide) rfl dX7_ahead_19 ?_
    refine lv_iload_n hx hb dX7_ahead_20 rfl (lv_at hl 1 rfl) ?_
    refine zr_val (congrArg Value.int (z_nn hm0)) ?_
    refine W.eq (g2 := F0 m 21 ls [.int (nI nights.toNatClampNeg), .int (m_at 3), .ref (ad 0), .ref (ad 0)]) rfl ?_
    refine zr_muV (F := mf_after m_at m_beside Wd R (m_at 3) nights.toNatClampNeg) (ff := fun t_3 => True) (rr := fun t_3 => some (.int t_3.1)) (w1 := fun t_3 => (mW G ad m_status m_top m_bottom m_taped m_size m_token m_from m_end m_value m_faultKind m_faultPlace m_faults m_seen m_depth m_counted m_lead m_round m_tried m_triedMany m_drawn m_ranSteps m_isTold m_marks m_at m_names m_sort m_trayMany m_trays m_tape m_text m_opened t_3.2 m_then m_ways m_further m_canBe m_loops m_ran m_told0)) ⟨hx, hb, hml, hown, hts⟩ (mt_mf_after l G ad m_status m_top m_bottom m_taped m_size m_token m_from m_end m_value m_faultKind m_faultPlace m_faults m_seen m_depth m_counted m_lead m_round m_tried m_triedMany m_drawn m_ranSteps m_isTold m_marks m_at m_names m_sort m_trayMany m_trays m_tape m_text m_opened m_beside m_then m_ways m_further m_canBe m_loops m_ran m_told0 Wd R nr nc (m_at 3) nights.toNatClampNeg hG (by omega) H.size) (cwV 2 hts (lw_V q1901 q1903 qs107 q144 q1904) rfl rfl rfl hd_X7_after ⟨(Nat.le_of_ble_eq_true rfl), (Nat.le_of_ble_eq_true rfl)⟩) hP hD hS hA hK hE 0 7 rfl rfl rfl hl.1 rfl (Nat.le_of_ble_eq_true rfl) dX7_ahead_21 ⟨Nat.le_refl _, Nat.le_refl _⟩ (fun t_3 ht_3 hft_3 H locs hP hD hS _ => ?_)
    refine W.eq (g2 := F0 m 24 ls [.int t_3.1, .ref (ad 0)]) rfl ?_
    refine lv_i2l hx hb dX7_ahead_24 rfl ?_
    refine zr_muV (F := ()) (ff := fun _ => True) (rr := fun _ => some (.long t_3.1.toInt64)) (w1 := fun _ => (mW G ad 0 m_top m_bottom m_taped m_size m_token m_from m_end m_value m_faultKind m_faultPlace m_faults m_seen m_depth m_counted m_lead m_round m_tried m_triedMany m_drawn m_ranSteps m_isTold m_marks m_at m_names m_sort m_trayMany m_trays m_tape m_text m_opened t_3.2 m_then m_ways m_further m_canBe m_loops m_ran m_told0)) ⟨hx, hb, hml, hown, hts⟩ (mt_mf_givesLong l G ad m_status m_top m_bottom m_taped m_size m_token m_from m_end m_value m_faultKind m_faultPlace m_faults m_seen m_depth m_counted m_lead m_round m_tried m_triedMany m_drawn m_ranSteps m_isTold m_marks m_at m_names m_sort m_trayMany m_trays m_tape m_text m_opened t_3.2 m_then m_ways m_further m_canBe m_loops m_ran m_told0 t_3.1.toInt64 H.size) (cwV 1 hts (lw_V q1791 q1793 qs92 q144 q1794) rfl rfl rfl hd_X7_givesLong ⟨(Nat.le_of_ble_eq_true rfl), (Nat.le_of_ble_eq_true rfl)⟩) hP hD hS hA hK hE 0 7 rfl rfl rfl hl.1 rfl (Nat.le_of_ble_eq_true rfl) dX7_ahead_25 ⟨Nat.le_refl _, Nat.le_refl _⟩ (fun _ _ _ H locs hP hD hS _ => ?_)
    refine W.eq (g2 := F0 m 28 ls [.long t_3.1.toInt64]) rfl ?_
    refine lv_goto (tgt := 37) hx hb dX7_ahead_28 (by decide) ?_
    have e_ : mf_ahead m_at m_beside Wd R nights = (t_3.1.toInt64, 0, t_3.2) := by rw [mf_ahead, if_pos c_1, zlet_eq ht_3]
    exact zr_ml hx hb hr hlocks hP hD hS dX7_ahead_37 (by rw [e_])  (by rw [e_]) trivial
def mf_comesAgain_B52 (m_at : Nat → Int32) (Wd : Nat) (R : Nat) (t_1 : (Nat → Int32)) (s_2 : Nat × (Nat → Int32)) (s_4 : Nat) : (Nat) ⊕ ((Nat) ⊕ (Bool × Int32 × Int32 × (Nat → Int32) × (Nat → Int32))) :=
  (if s_2.1 ≤ s_4 then
    .inr (.inl s_4)
  else
    (if ((upd s_2.2 s_2.1 (mf_becomes m_at t_1 Wd R (s_2.2 (s_2.1 - 1)) (m_at 10))) s_4) = ((upd s_2.2 s_2.1 (mf_becomes m_at t_1 Wd R (s_2.2 (s_2.1 - 1)) (m_at 10))) s_2.1) then
      .inr (.inr (true, nI s_4, nI (s_2.1 - s_4), t_1, upd s_2.2 s_2.1 (mf_becomes m_at t_1 Wd R (s_2.2 (s_2.1 - 1)) (m_at 10))))
    else
      .inl (s_4 + 1)))
def mf_comesAgain_L52 (m_at : Nat → Int32) (Wd : Nat) (R : Nat) (t_1 : (Nat → Int32)) (s_2 : Nat × (Nat → Int32)) (s_4 : Nat) : (Nat) ⊕ (Bool × Int32 × Int32 × (Nat → Int32) × (Nat → Int32)) := zw (mf_comesAgain_B52 m_at Wd R t_1 s_2) (.inl s_4) ((s_2.1 - s_4) + 1) s_4
def mf_comesAgain_B18 (m_at : Nat → Int32) (Wd : Nat) (R : Nat) (t_1 : (Nat → Int32)) (s_2 : Nat × (Nat → Int32)) : (Nat × (Nat → Int32)) ⊕ ((Nat × (Nat → Int32)) ⊕ (Bool × Int32 × Int32 × (Nat → Int32) × (Nat → Int32))) :=
  (if 2000 < s_2.1 then
    .inr (.inl (s_2.1, s_2.2))
  else
    zcase (mf_comesAgain_L52 m_at Wd R t_1 s_2 0) (fun t_4 =>
    .inl (s_2.1 + 1, upd s_2.2 s_2.1 (mf_becomes m_at t_1 Wd R (s_2.2 (s_2.1 - 1)) (m_at 10)))) (fun r => .inr (.inr r)))
def mf_comesAgain_L18 (m_at : Nat → Int32) (Wd : Nat) (R : Nat) (t_1 : (Nat → Int32)) (s_2 : Nat × (Nat → Int32)) : (Nat × (Nat → Int32)) ⊕ (Bool × Int32 × Int32 × (Nat → Int32) × (Nat → Int32)) := zw (mf_comesAgain_B18 m_at Wd R t_1) (.inl s_2) ((2001 - s_2.1) + 1) s_2
def mf_comesAgain (m_lead : Int32) (m_round : Int32) (m_at : Nat → Int32) (m_beside : Nat → Int32) (m_then : Nat → Int32) (Wd : Nat) (R : Nat) : Bool × Int32 × Int32 × (Nat → Int32) × (Nat → Int32) :=
  zlet (mf_laysNear m_at m_beside Wd R) (fun t_1 =>
  zcase (mf_comesAgain_L18 m_at Wd R t_1 (1, upd m_then 0 (m_at 3))) (fun t_2 =>
  (false, m_lead, m_round, t_1, t_2.2)) (fun r => r))
theorem hd_X7_comesAgain : yX7_comesAgain.cls = RX7 ∧ yX7_comesAgain.cls ≠ "java/lang/invoke/MethodHandle" ∧ yX7_comesAgain.cls ≠ "java/lang/invoke/VarHandle" ∧ (parseMethodDescriptor yX7_comesAgain.desc).map (fun d => d.parameters.length) = some 0 := by decide +kernel
set_option maxHeartbeats 4000000 in
set_option maxRecDepth 100000 in
theorem mt_mf_comesAgain (l : Launch) (G : zG) (ad : Nat → Nat) (m_status : Int32) (m_top : Int64) (m_bottom : Int64) (m_taped : Int32) (m_size : Int32) (m_token : Int32) (m_from : Int32) (m_end : Int32) (m_value : Int32) (m_faultKind : Int32) (m_faultPlace : Int32) (m_faults : Int32) (m_seen : Int32) (m_depth : Int32) (m_counted : Int32) (m_lead : Int32) (m_round : Int32) (m_tried : Int32) (m_triedMany : Int32) (m_drawn : Int32) (m_ranSteps : Int32) (m_isTold : Bool) (m_marks : Int32) (m_at : Nat → Int32) (m_names : Nat → Int64) (m_sort : Nat → Int32) (m_trayMany : Nat → Int32) (m_trays : Nat → Int64) (m_tape : Nat → Int32) (m_text : Nat → Int32) (m_opened : Nat → Int32) (m_beside : Nat → Int32) (m_then : Nat → Int32) (m_ways : Nat → Int64) (m_further : Nat → Int64) (m_canBe : Nat → Int32) (m_loops : Nat → Int32) (m_ran : Nat → Int32) (m_told0 : Nat → Int32) (Wd : Nat) (R : Nat) (nr : Nat) (nc : Nat) (hG : mOK m_at Wd R nr nc) (sz : Nat) : Met l yX7_comesAgain (ws_ yX7_comesAgain cX7_comesAgain 3 (some .boolean)) (zR 4 0 0) (zPm G sz [.ref (ad 0)] (mW G ad m_status m_top m_bottom m_taped m_size m_token m_from m_end m_value m_faultKind m_faultPlace m_faults m_seen m_depth m_counted m_lead m_round m_tried m_triedMany m_drawn m_ranSteps m_isTold m_marks m_at m_names m_sort m_trayMany m_trays m_tape m_text m_opened m_beside m_then m_ways m_further m_canBe m_loops m_ran m_told0)) (zQm G ((((mf_comesAgain m_lead m_round m_at m_beside m_then Wd R).1) = true → (¬ ((mf_comesAgain m_lead m_round m_at m_beside m_then Wd R).2.1) < 0 ∧ ¬ ((mf_comesAgain m_lead m_round m_at m_beside m_then Wd R).2.2.1) < 0 ∧ 1 ≤ (((mf_comesAgain m_lead m_round m_at m_beside m_then Wd R).2.2.1)).toNatClampNeg ∧ (((mf_comesAgain m_lead m_round m_at m_beside m_then Wd R).2.1)).toNatClampNeg + (((mf_comesAgain m_lead m_round m_at m_beside m_then Wd R).2.2.1)).toNatClampNeg ≤ 2000))) (some (.int (zb ((mf_comesAgain m_lead m_round m_at m_beside m_then Wd R).1)))) (mW G ad m_status m_top m_bottom m_taped m_size m_token m_from m_end m_value m_faultKind m_faultPlace m_faults m_seen m_depth m_counted ((mf_comesAgain m_lead m_round m_at m_beside m_then Wd R).2.1) ((mf_comesAgain m_lead m_round m_at m_beside m_then Wd R).2.2.1) m_tried m_triedMany m_drawn m_ranSteps m_isTold m_marks m_at m_names m_sort m_trayMany m_trays m_tape m_text m_opened ((mf_comesAgain m_lead m_round m_at m_beside m_then Wd R).2.2.2.1) ((mf_comesAgain m_lead m_round m_at m_beside m_then Wd R).2.2.2.2) m_ways m_further m_canBe m_loops m_ran m_told0) (va_A (mW G ad m_status m_top m_bottom m_taped m_size m_token m_from m_end m_value m_faultKind m_faultPlace m_faults m_seen m_depth m_counted m_lead m_round m_tried m_triedMany m_drawn m_ranSteps m_isTold m_marks m_at m_names m_sort m_trayMany m_trays m_tape m_text m_opened m_beside m_then m_ways m_further m_canBe m_loops m_ran m_told0) sz)) 0 0 (va_A (mW G ad m_status m_top m_bottom m_taped m_size m_token m_from m_end m_value m_faultKind m_faultPlace m_faults m_seen m_depth m_counted m_lead m_round m_tried m_triedMany m_drawn m_ranSteps m_isTold m_marks m_at m_names m_sort m_trayMany m_trays m_tape m_text m_opened m_beside m_then m_ways m_further m_canBe m_loops m_ran m_told0) sz) := by
  refine zr_entM (by decide) (Nat.le_of_ble_eq_true rfl) ?_
  intro p e s m below meth c ⟨hx, hb, hr, hml, hown, hts, hlocks, hnm⟩ ls hl hP hK A hE hA hD hS
  have hown : s.vm.findClass RX7 = some m.cls := hown
  have hl : lv_has ls 3 [(0, .ref (ad 0))] := hl
  obtain ⟨H, hH⟩ : ∃ H, H = s.heap := ⟨_, rfl⟩
  obtain ⟨locs, hlo⟩ : ∃ L : List Loc, L = [] := ⟨_, rfl⟩
  rw [← hH] at hP
  have hS : va_S A s.heap H locs := by rw [hH, hlo]; exact va_S.rf
  have hgo : W p l e (zR 4 0 0) s m ([.ref (ad 0)] : List Value).toArray below meth c H locs 0 0 (MQ below (zQm G ((((mf_comesAgain m_lead m_round m_at m_beside m_then Wd R).1) = true → (¬ ((mf_comesAgain m_lead m_round m_at m_beside m_then Wd R).2.1) < 0 ∧ ¬ ((mf_comesAgain m_lead m_round m_at m_beside m_then Wd R).2.2.1) < 0 ∧ 1 ≤ (((mf_comesAgain m_lead m_round m_at m_beside m_then Wd R).2.2.1)).toNatClampNeg ∧ (((mf_comesAgain m_lead m_round m_at m_beside m_then Wd R).2.1)).toNatClampNeg + (((mf_comesAgain m_lead m_round m_at m_beside m_then Wd R).2.2.1)).toNatClampNeg ≤ 2000))) (some (.int (zb ((mf_comesAgain m_lead m_round m_at m_beside m_then Wd R).1)))) (mW G ad m_status m_top m_bottom m_taped m_size m_token m_from m_end m_value m_faultKind m_faultPlace m_faults m_seen m_depth m_counted ((mf_comesAgain m_lead m_round m_at m_beside m_then Wd R).2.1) ((mf_comesAgain m_lead m_round m_at m_beside m_then Wd R).2.2.1) m_tried m_triedMany m_drawn m_ranSteps m_isTold m_marks m_at m_names m_sort m_trayMany m_trays m_tape m_text m_opened ((mf_comesAgain m_lead m_round m_at m_beside m_then Wd R).2.2.2.1) ((mf_comesAgain m_lead m_round m_at m_beside m_then Wd R).2.2.2.2) m_ways m_further m_canBe m_loops m_ran m_told0) A) ([.ref (ad 0)] : List Value).toArray s 0 0 A) (F0 m 0 ls []) := ?_
  · rw [hH, hlo] at hgo; exact hgo
  clear hH hlo
  have hWR := mOK_WR hG
  have hW0 := mOK_W0 hG
  have hW5 := mOK_W5 hG
  have hR0 := mOK_R0 hG
  have hR6 := mOK_R6 hG
  have hn4 := mOK_n4 hG
  have hc6 := mOK_c6 hG
  refine lv_aload_n hx hb dX7_comesAgain_0 rfl (lv_at hl 0 rfl) ?_
  refine zr_muV (F := mf_laysNear m_at m_beside Wd R) (ff := fun t_1 => True) (rr := fun t_1 => none) (w1 := fun t_1 => (mW G ad m_status m_top m_bottom m_taped m_size m_token m_from m_end m_value m_faultKind m_faultPlace m_faults m_seen m_depth m_counted m_lead m_round m_tried m_triedMany m_drawn m_ranSteps m_isTold m_marks m_at m_names m_sort m_trayMany m_trays m_tape m_text m_opened t_1 m_then m_ways m_further m_canBe m_loops m_ran m_told0)) ⟨hx, hb, hml, hown, hts⟩ (mt_mf_laysNear l G ad m_status m_top m_bottom m_taped m_size m_token m_from m_end m_value m_faultKind m_faultPlace m_faults m_seen m_depth m_counted m_lead m_round m_tried m_triedMany m_drawn m_ranSteps m_isTold m_marks m_at m_names m_sort m_trayMany m_trays m_tape m_text m_opened m_beside m_then m_ways m_further m_canBe m_loops m_ran m_told0 Wd R nr nc hG H.size) (cwV 0 hts (lw_V q1889 q1891 qs105 q144 q1892) rfl rfl rfl hd_X7_laysNear ⟨(Nat.le_of_ble_eq_true rfl), (Nat.le_of_ble_eq_true rfl)⟩) hP hD hS hA hK hE 0 7 rfl rfl rfl hl.1 rfl (Nat.le_of_ble_eq_true rfl) dX7_comesAgain_1 ⟨Nat.le_refl _, Nat.le_refl _⟩ (fun t_1 ht_1 hft_1 H locs hP hD hS _ => ?_)
  refine W.eq (g2 := F0 m 4 ls []) rfl ?_
  refine lv_aload_n hx hb dX7_comesAgain_4 rfl (lv_at hl 0 rfl) ?_
  refine va_get (D := G.1) (ci := 7) (v := .ref (ad 10)) (C := RX7) (T := TX7) (N := 39) hx hb hts in_X7 hown hK.1 hP 0 rfl rfl 24 (Nat.le_of_ble_eq_true rfl) (hts _ q1491) (fun _ h => h) rfl dX7_comesAgain_5 ?_
  refine lv_iconst (v := 0) hx hb dX7_comesAgain_8 (by decide) ?_
  refine lv_aload_n hx hb dX7_comesAgain_9 rfl (lv_at hl 0 rfl) ?_
  refine va_get (D := G.1) (ci := 7) (v := .ref (ad 1)) (C := RX7) (T := TX7) (N := 39) hx hb hts in_X7 hown hK.1 hP 0 rfl rfl 0 (Nat.le_of_ble_eq_true rfl) (hts _ q1467) (fun _ h => h) rfl dX7_comesAgain_10 ?_
  refine lv_iconst (v := 3) hx hb dX7_comesAgain_13 (by decide) ?_
  refine zr_iald 3 (v := m_at 3) hx hb hK hP 1 rfl rfl (Nat.le_of_ble_eq_true rfl) rfl (by decide) rfl dX7_comesAgain_14 ?_
  refine zr_iast 0 (ws' := (mW G ad m_status m_top m_bottom m_taped m_size m_token m_from m_end m_value m_faultKind m_faultPlace m_faults m_seen m_depth m_counted m_lead m_round m_tried m_triedMany m_drawn m_ranSteps m_isTold m_marks m_at m_names m_sort m_trayMany m_trays m_tape m_text m_opened t_1 (upd m_then 0 (m_at 3)) m_ways m_further m_canBe m_loops m_ran m_told0)) hx hb hK hP hD hS 10 rfl rfl (Nat.le_of_ble_eq_true rfl) rfl (by decide) rfl dX7_comesAgain_15 (fun H locs hP hD hS => ?_)
  refine lv_iconst (v := 1) hx hb dX7_comesAgain_16 (by decide) ?_
  refine lv_istore_n (lv' := [(1, .int 1), (0, .ref (ad 0))]) hx hb dX7_comesAgain_17 rfl hl (by decide) rfl (fun ls hl => ?_)
  have hx_2 : ∀ t_2 : Nat × (Nat → Int32), mf_comesAgain_L18 m_at Wd R t_1 (1, upd m_then 0 (m_at 3)) = .inl t_2 → ∀ (H : Heap) (locs : List Loc), va_P G.1 zcl (mW G ad m_status m_top m_bottom m_taped m_size m_token m_from m_end m_value m_faultKind m_faultPlace m_faults m_seen m_depth m_counted m_lead m_round m_tried m_triedMany m_drawn m_ranSteps m_isTold m_marks m_at m_names m_sort m_trayMany m_trays m_tape m_text m_opened t_1 t_2.2 m_ways m_further m_canBe m_loops m_ran m_told0) H → va_D A (mW G ad m_status m_top m_bottom m_taped m_size m_token m_from m_end m_value m_faultKind m_faultPlace m_faults m_seen m_depth m_counted m_lead m_round m_tried m_triedMany m_drawn m_ranSteps m_isTold m_marks m_at m_names m_sort m_trayMany m_trays m_tape m_text m_opened t_1 t_2.2 m_ways m_further m_canBe m_loops m_ran m_told0) → va_S A s.heap H locs → ∀ ls : Array Slot, lv_has ls 3 [] → W p l e (zR 4 0 0) s m ([.ref (ad 0)] : List Value).toArray below meth c H locs 0 0 (MQ below (zQm G ((((mf_comesAgain m_lead m_round m_at m_beside m_then Wd R).1) = true → (¬ ((mf_comesAgain m_lead m_round m_at m_beside m_then Wd R).2.1) < 0 ∧ ¬ ((mf_comesAgain m_lead m_round m_at m_beside m_then Wd R).2.2.1) < 0 ∧ 1 ≤ (((mf_comesAgain m_lead m_round m_at m_beside m_then Wd R).2.2.1)).toNatClampNeg ∧ (((mf_comesAgain m_lead m_round m_at m_beside m_then Wd R).2.1)).toNatClampNeg + (((mf_comesAgain m_lead m_round m_at m_beside m_then Wd R).2.2.1)).toNatClampNeg ≤ 2000))) (some (.int (zb ((mf_comesAgain m_lead m_round m_at m_beside m_then Wd R).1)))) (mW G ad m_status m_top m_bottom m_taped m_size m_token m_from m_end m_value m_faultKind m_faultPlace m_faults m_seen m_depth m_counted ((mf_comesAgain m_lead m_round m_at m_beside m_then Wd R).2.1) ((mf_comesAgain m_lead m_round m_at m_beside m_then Wd R).2.2.1) m_tried m_triedMany m_drawn m_ranSteps m_isTold m_marks m_at m_names m_sort m_trayMany m_trays m_tape m_text m_opened ((mf_comesAgain m_lead m_round m_at m_beside m_then Wd R).2.2.2.1) ((mf_comesAgain m_lead m_round m_at m_beside m_then Wd R).2.2.2.2) m_ways m_further m_canBe m_loops m_ran m_told0) A) ([.ref (ad 0)] : List Value).toArray s 0 0 A) (F0 m 101 ls []) := by
    intro t_2 ht_2 H locs hP hD hS ls hl
    refine lv_iconst (v := 0) hx hb dX7_comesAgain_101 (by decide) ?_
    have e_ : mf_comesAgain m_lead m_round m_at m_beside m_then Wd R = (false, m_lead, m_round, t_1, t_2.2) := by rw [mf_comesAgain, zlet_eq ht_1, zcase_l ht_2]
    exact zr_mz hx hb hr hlocks hP hD hS dX7_comesAgain_102 rfl (by rw [e_]; rfl) (by rw [e_]) (by rw [e_]; exact (fun z => by first | exact absurd z Bool.false_ne_true | exact zca _ _ (by omega) (by omega)))
  have hlp_2 : ∀ (n : Nat) (s_2 : Nat × (Nat → Int32)), 2001 - s_2.1 < n → zw (mf_comesAgain_B18 m_at Wd R t_1) (.inl (1, upd m_then 0 (m_at 3))) n s_2 = mf_comesAgain_L18 m_at Wd R t_1 (1, upd m_then 0 (m_at 3)) → 1 ≤ s_2.1 ∧ s_2.1 ≤ 2001 → ∀ (H : Heap) (locs : List Loc), va_P G.1 zcl (mW G ad m_status m_top m_bottom m_taped m_size m_token m_from m_end m_value m_faultKind m_faultPlace m_faults m_seen m_depth m_counted m_lead m_round m_tried m_triedMany m_drawn m_ranSteps m_isTold m_marks m_at m_names m_sort m_trayMany m_trays m_tape m_text m_opened t_1 s_2.2 m_ways m_further m_canBe m_loops m_ran m_told0) H → va_D A (mW G ad m_status m_top m_bottom m_taped m_size m_token m_from m_end m_value m_faultKind m_faultPlace m_faults m_seen m_depth m_counted m_lead m_round m_tried m_triedMany m_drawn m_ranSteps m_isTold m_marks m_at m_names m_sort m_trayMany m_trays m_tape m_text m_opened t_1 s_2.2 m_ways m_further m_canBe m_loops m_ran m_told0) → va_S A s.heap H locs → ∀ ls : Array Slot, lv_has ls 3 [(1, .int (nI s_2.1)), (0, .ref (ad 0))] → W p l e (zR 4 0 0) s m ([.ref (ad 0)] : List Value).toArray below meth c H locs 0 0 (MQ below (zQm G ((((mf_comesAgain m_lead m_round m_at m_beside m_then Wd R).1) = true → (¬ ((mf_comesAgain m_lead m_round m_at m_beside m_then Wd R).2.1) < 0 ∧ ¬ ((mf_comesAgain m_lead m_round m_at m_beside m_then Wd R).2.2.1) < 0 ∧ 1 ≤ (((mf_comesAgain m_lead m_round m_at m_beside m_then Wd R).2.2.1)).toNatClampNeg ∧ (((mf_comesAgain m_lead m_round m_at m_beside m_then Wd R).2.1)).toNatClampNeg + (((mf_comesAgain m_lead m_round m_at m_beside m_then Wd R).2.2.1)).toNatClampNeg ≤ 2000))) (some (.int (zb ((mf_comesAgain m_lead m_round m_at m_beside m_then Wd R).1)))) (mW G ad m_status m_top m_bottom m_taped m_size m_token m_from m_end m_value m_faultKind m_faultPlace m_faults m_seen m_depth m_counted ((mf_comesAgain m_lead m_round m_at m_beside m_then Wd R).2.1) ((mf_comesAgain m_lead m_round m_at m_beside m_then Wd R).2.2.1) m_tried m_triedMany m_drawn m_ranSteps m_isTold m_marks m_at m_names m_sort m_trayMany m_trays m_tape m_text m_opened ((mf_comesAgain m_lead m_round m_at m_beside m_then Wd R).2.2.2.1) ((mf_comesAgain m_lead m_round m_at m_beside m_then Wd R).2.2.2.2) m_ways m_further m_canBe m_loops m_ran m_told0) A) ([.ref (ad 0)] : List Value).toArray s 0 0 A) (F0 m 18 ls []) := by
    intro n
    induction n with
    | zero => exact fun _ h => absurd h (Nat.not_lt_zero _)
    | succ n ih_2 =>
      intro s_2 hmu_2 hR_2 hi1 H locs hP hD hS ls hl
      refine lv_iload_n hx hb dX7_comesAgain_18 rfl (lv_at hl 0 rfl) ?_
      refine lv_sipush (v := 2000) hx hb dX7_comesAgain_19 (by decide) ?_
      refine zr_gt s_2.1 2000 (by omega) (by decide) (tgt := 101) hx hb dX7_comesAgain_22 (by decide) (fun c_3 => ?_) (fun c_3 => ?_)
      · exact hx_2 (s_2.1, s_2.2) (hR_2.symm.trans (zw_r (by rw [mf_comesAgain_B18, if_pos c_3]))) H locs hP hD hS ls (lv_sub hl [] rfl)
      · refine lv_aload_n hx hb dX7_comesAgain_25 rfl (lv_at hl 1 rfl) ?_
        refine va_get (D := G.1) (ci := 7) (v := .ref (ad 10)) (C := RX7) (T := TX7) (N := 39) hx hb hts in_X7 hown hK.1 hP 0 rfl rfl 24 (Nat.le_of_ble_eq_true rfl) (hts _ q1491) (fun _ h => h) rfl dX7_comesAgain_26 ?_
        refine lv_iload_n hx hb dX7_comesAgain_29 rfl (lv_at hl 0 rfl) ?_
        refine lv_aload_n hx hb dX7_comesAgain_30 rfl (lv_at hl 1 rfl) ?_
        refine lv_aload_n hx hb dX7_comesAgain_31 rfl (lv_at hl 1 rfl) ?_
        refine va_get (D := G.1) (ci := 7) (v := .ref (ad 10)) (C := RX7) (T := TX7) (N := 39) hx hb hts in_X7 hown hK.1 hP 0 rfl rfl 24 (Nat.le_of_ble_eq_true rfl) (hts _ q1491) (fun _ h => h) rfl dX7_comesAgain_32 ?_
        refine lv_iload_n hx hb dX7_comesAgain_35 rfl (lv_at hl 0 rfl) ?_
        refine lv_iconst (v := 1) hx hb dX7_comesAgain_36 (by decide) ?_
        refine zr_isubN s_2.1 1 (by omega) hx hb dX7_comesAgain_37 ?_
        refine zr_iald (s_2.1 - 1) (v := s_2.2 (s_2.1 - 1)) hx hb hK hP 10 rfl rfl (Nat.le_of_ble_eq_true rfl) rfl (by omega) rfl dX7_comesAgain_38 ?_
        refine lv_aload_n hx hb dX7_comesAgain_39 rfl (lv_at hl 1 rfl) ?_
        refine va_get (D := G.1) (ci := 7) (v := .ref (ad 1)) (C := RX7) (T := TX7) (N := 39) hx hb hts in_X7 hown hK.1 hP 0 rfl rfl 0 (Nat.le_of_ble_eq_true rfl) (hts _ q1467) (fun _ h => h) rfl dX7_comesAgain_40 ?_
        refine lv_bipush (v := 10) hx hb dX7_comesAgain_43 (by decide) ?_
        refine zr_iald 10 (v := m_at 10) hx hb hK hP 1 rfl rfl (Nat.le_of_ble_eq_true rfl) rfl (by decide) rfl dX7_comesAgain_45 ?_
        refine zr_obV ⟨hx, hb, hml, hown, hts⟩ (mt_mf_becomes l G ad m_status m_top m_bottom m_taped m_size m_token m_from m_end m_value m_faultKind m_faultPlace m_faults m_seen m_depth m_counted m_lead m_round m_tried m_triedMany m_drawn m_ranSteps m_isTold m_marks m_at m_names m_sort m_trayMany m_trays m_tape m_text m_opened t_1 s_2.2 m_ways m_further m_canBe m_loops m_ran m_told0 Wd R nr nc (s_2.2 (s_2.1 - 1)) (m_at 10) hG (mOK_by hG)) (cwV 2 hts (lw_V q1893 q1895 qs106 q144 q1896) rfl rfl rfl hd_X7_becomes ⟨(Nat.le_of_ble_eq_true rfl), (Nat.le_of_ble_eq_true rfl)⟩) hP hK (zE_o hE hS) 0 7 rfl rfl rfl hl.1 rfl (Nat.le_of_ble_eq_true rfl) dX7_comesAgain_46 ⟨Nat.le_refl _, Nat.le_refl _⟩ ?_
        refine zr_iast s_2.1 (ws' := (mW G ad m_status m_top m_bottom m_taped m_size m_token m_from m_end m_value m_faultKind m_faultPlace m_faults m_seen m_depth m_counted m_lead m_round m_tried m_triedMany m_drawn m_ranSteps m_isTold m_marks m_at m_names m_sort m_trayMany m_trays m_tape m_text m_opened t_1 (upd s_2.2 s_2.1 (mf_becomes m_at t_1 Wd R (s_2.2 (s_2.1 - 1)) (m_at 10))) m_ways m_further m_canBe m_loops m_ran m_told0)) hx hb hK hP hD hS 10 rfl rfl (Nat.le_of_ble_eq_true rfl) rfl (by omega) rfl dX7_comesAgain_49 (fun H locs hP hD hS => ?_)
        refine lv_iconst (v := 0) hx hb dX7_comesAgain_50 (by decide) ?_
        refine lv_istore_n (lv' := [(2, .int 0), (1, .int (nI s_2.1)), (0, .ref (ad 0))]) hx hb dX7_comesAgain_51 rfl hl (by decide) rfl (fun ls hl => ?_)
        have hx_4 : ∀ t_4 : Nat, mf_comesAgain_L52 m_at Wd R t_1 s_2 0 = .inl t_4 → ∀ (H : Heap) (locs : List Loc), va_P G.1 zcl (mW G ad m_status m_top m_bottom m_taped m_size m_token m_from m_end m_value m_faultKind m_faultPlace m_faults m_seen m_depth m_counted m_lead m_round m_tried m_triedMany m_drawn m_ranSteps m_isTold m_marks m_at m_names m_sort m_trayMany m_trays m_tape m_text m_opened t_1 (upd s_2.2 s_2.1 (mf_becomes m_at t_1 Wd R (s_2.2 (s_2.1 - 1)) (m_at 10))) m_ways m_further m_canBe m_loops m_ran m_told0) H → va_D A (mW G ad m_status m_top m_bottom m_taped m_size m_token m_from m_end m_value m_faultKind m_faultPlace m_faults m_seen m_depth m_counted m_lead m_round m_tried m_triedMany m_drawn m_ranSteps m_isTold m_marks m_at m_names m_sort m_trayMany m_trays m_tape m_text m_opened t_1 (upd s_2.2 s_2.1 (mf_becomes m_at t_1 Wd R (s_2.2 (s_2.1 - 1)) (m_at 10))) m_ways m_further m_canBe m_loops m_ran m_told0) → va_S A s.heap H locs → ∀ ls : Array Slot, lv_has ls 3 [(1, .int (nI s_2.1)), (0, .ref (ad 0))] → W p l e (zR 4 0 0) s m ([.ref (ad 0)] : List Value).toArray below meth c H locs 0 0 (MQ below (zQm G ((((mf_comesAgain m_lead m_round m_at m_beside m_then Wd R).1) = true → (¬ ((mf_comesAgain m_lead m_round m_at m_beside m_then Wd R).2.1) < 0 ∧ ¬ ((mf_comesAgain m_lead m_round m_at m_beside m_then Wd R).2.2.1) < 0 ∧ 1 ≤ (((mf_comesAgain m_lead m_round m_at m_beside m_then Wd R).2.2.1)).toNatClampNeg ∧ (((mf_comesAgain m_lead m_round m_at m_beside m_then Wd R).2.1)).toNatClampNeg + (((mf_comesAgain m_lead m_round m_at m_beside m_then Wd R).2.2.1)).toNatClampNeg ≤ 2000))) (some (.int (zb ((mf_comesAgain m_lead m_round m_at m_beside m_then Wd R).1)))) (mW G ad m_status m_top m_bottom m_taped m_size m_token m_from m_end m_value m_faultKind m_faultPlace m_faults m_seen m_depth m_counted ((mf_comesAgain m_lead m_round m_at m_beside m_then Wd R).2.1) ((mf_comesAgain m_lead m_round m_at m_beside m_then Wd R).2.2.1) m_tried m_triedMany m_drawn m_ranSteps m_isTold m_marks m_at m_names m_sort m_trayMany m_trays m_tape m_text m_opened ((mf_comesAgain m_lead m_round m_at m_beside m_then Wd R).2.2.2.1) ((mf_comesAgain m_lead m_round m_at m_beside m_then Wd R).2.2.2.2) m_ways m_further m_canBe m_loops m_ran m_told0) A) ([.ref (ad 0)] : List Value).toArray s 0 0 A) (F0 m 95 ls []) := by
          intro t_4 ht_4 H locs hP hD hS ls hl
          refine lv_iinc (v := nI (s_2.1 + 1)) (lv' := [(1, .int (nI (s_2.1 + 1))), (0, .ref (ad 0))]) hx hb dX7_comesAgain_95 hl (k := 0) rfl (nI_add s_2.1 1) (by decide) rfl (fun ls hl => ?_)
          refine lv_goto (tgt := 18) hx hb dX7_comesAgain_98 (by decide) ?_
          exact ih_2 (s_2.1 + 1, upd s_2.2 s_2.1 (mf_becomes m_at t_1 Wd R (s_2.2 (s_2.1 - 1)) (m_at 10))) (by omega) ((zw_l (by rw [mf_comesAgain_B18, if_neg c_3, zcase_l ht_4])).symm.trans hR_2) (by omega) H locs hP hD hS ls (lv_sub hl [0, 1] rfl)
        have hlp_4 : ∀ (n : Nat) (s_4 : Nat), s_2.1 - s_4 < n → zw (mf_comesAgain_B52 m_at Wd R t_1 s_2) (.inl 0) n s_4 = mf_comesAgain_L52 m_at Wd R t_1 s_2 0 → s_4 ≤ s_2.1 → ∀ (H : Heap) (locs : List Loc), va_P G.1 zcl (mW G ad m_status m_top m_bottom m_taped m_size m_token m_from m_end m_value m_faultKind m_faultPlace m_faults m_seen m_depth m_counted m_lead m_round m_tried m_triedMany m_drawn m_ranSteps m_isTold m_marks m_at m_names m_sort m_trayMany m_trays m_tape m_text m_opened t_1 (upd s_2.2 s_2.1 (mf_becomes m_at t_1 Wd R (s_2.2 (s_2.1 - 1)) (m_at 10))) m_ways m_further m_canBe m_loops m_ran m_told0) H → va_D A (mW G ad m_status m_top m_bottom m_taped m_size m_token m_from m_end m_value m_faultKind m_faultPlace m_faults m_seen m_depth m_counted m_lead m_round m_tried m_triedMany m_drawn m_ranSteps m_isTold m_marks m_at m_names m_sort m_trayMany m_trays m_tape m_text m_opened t_1 (upd s_2.2 s_2.1 (mf_becomes m_at t_1 Wd R (s_2.2 (s_2.1 - 1)) (m_at 10))) m_ways m_further m_canBe m_loops m_ran m_told0) → va_S A s.heap H locs → ∀ ls : Array Slot, lv_has ls 3 [(2, .int (nI s_4)), (1, .int (nI s_2.1)), (0, .ref (ad 0))] → W p l e (zR 4 0 0) s m ([.ref (ad 0)] : List Value).toArray below meth c H locs 0 0 (MQ below (zQm G ((((mf_comesAgain m_lead m_round m_at m_beside m_then Wd R).1) = true → (¬ ((mf_comesAgain m_lead m_round m_at m_beside m_then Wd R).2.1) < 0 ∧ ¬ ((mf_comesAgain m_lead m_round m_at m_beside m_then Wd R).2.2.1) < 0 ∧ 1 ≤ (((mf_comesAgain m_lead m_round m_at m_beside m_then Wd R).2.2.1)).toNatClampNeg ∧ (((mf_comesAgain m_lead m_round m_at m_beside m_then Wd R).2.1)).toNatClampNeg + (((mf_comesAgain m_lead m_round m_at m_beside m_then Wd R).2.2.1)).toNatClampNeg ≤ 2000))) (some (.int (zb ((mf_comesAgain m_lead m_round m_at m_beside m_then Wd R).1)))) (mW G ad m_status m_top m_bottom m_taped m_size m_token m_from m_end m_value m_faultKind m_faultPlace m_faults m_seen m_depth m_counted ((mf_comesAgain m_lead m_round m_at m_beside m_then Wd R).2.1) ((mf_comesAgain m_lead m_round m_at m_beside m_then Wd R).2.2.1) m_tried m_triedMany m_drawn m_ranSteps m_isTold m_marks m_at m_names m_sort m_trayMany m_trays m_tape m_text m_opened ((mf_comesAgain m_lead m_round m_at m_beside m_then Wd R).2.2.2.1) ((mf_comesAgain m_lead m_round m_at m_beside m_then Wd R).2.2.2.2) m_ways m_further m_canBe m_loops m_ran m_told0) A) ([.ref (ad 0)] : List Value).toArray s 0 0 A) (F0 m 52 ls []) := by
          intro n
          induction n with
          | zero => exact fun _ h => absurd h (Nat.not_lt_zero _)
          | succ n ih_4 =>
            intro s_4 hmu_4 hR_4 hi2 H locs hP hD hS ls hl
            refine lv_iload_n hx hb dX7_comesAgain_52 rfl (lv_at hl 0 rfl) ?_
            refine lv_iload_n hx hb dX7_comesAgain_53 rfl (lv_at hl 1 rfl) ?_
            refine zr_ge s_4 s_2.1 (by omega) (by omega) (tgt := 95) hx hb dX7_comesAgain_54 (by decide) (fun c_5 => ?_) (fun c_5 => ?_)
            · exact hx_4 s_4 (hR_4.symm.trans (zw_r (by rw [mf_comesAgain_B52, if_pos c_5]))) H locs hP hD hS ls (lv_sub hl [1, 2] rfl)
            · refine lv_aload_n hx hb dX7_comesAgain_57 rfl (lv_at hl 2 rfl) ?_
              refine va_get (D := G.1) (ci := 7) (v := .ref (ad 10)) (C := RX7) (T := TX7) (N := 39) hx hb hts in_X7 hown hK.1 hP 0 rfl rfl 24 (Nat.le_of_ble_eq_true rfl) (hts _ q1491) (fun _ h => h) rfl dX7_comesAgain_58 ?_
              refine lv_iload_n hx hb dX7_comesAgain_61 rfl (lv_at hl 0 rfl) ?_
              refine zr_iald s_4 (v := (upd s_2.2 s_2.1 (mf_becomes m_at t_1 Wd R (s_2.2 (s_2.1 - 1)) (m_at 10))) s_4) hx hb hK hP 10 rfl rfl (Nat.le_of_ble_eq_true rfl) rfl (by omega) rfl dX7_comesAgain_62 ?_
              refine lv_aload_n hx hb dX7_comesAgain_63 rfl (lv_at hl 2 rfl) ?_
              refine va_get (D := G.1) (ci := 7) (v := .ref (ad 10)) (C := RX7) (T := TX7) (N := 39) hx hb hts in_X7 hown hK.1 hP 0 rfl rfl 24 (Nat.le_of_ble_eq_true rfl) (hts _ q1491) (fun _ h => h) rfl dX7_comesAgain_64 ?_
              refine lv_iload_n hx hb dX7_comesAgain_67 rfl (lv_at hl 1 rfl) ?_
              refine zr_iald s_2.1 (v := (upd s_2.2 s_2.1 (mf_becomes m_at t_1 Wd R (s_2.2 (s_2.1 - 1)) (m_at 10))) s_2.1) hx hb hK hP 10 rfl rfl (Nat.le_of_ble_eq_true rfl) rfl (by omega) rfl dX7_comesAgain_68 ?_
              refine lv_icmp_eq (tgt := 75) hx hb dX7_comesAgain_69 (by decide) (fun c_6 => ?_) (fun c_6 => ?_)
              · refine lv_aload_n hx hb dX7_comesAgain_75 rfl (lv_at hl 2 rfl) ?_
                refine lv_iload_n hx hb dX7_comesAgain_76 rfl (lv_at hl 0 rfl) ?_
                refine va_put (D := G.1) (ci := 7) (v := .int (nI s_4)) (ty := .int) (C := RX7) (T := TX7) (N := 39) hx hb hts in_X7 tyX7 tyX7_ok nmX7 hown hK.1 hP hD hS 0 rfl rfl 25 (Nat.le_of_ble_eq_true rfl) (hts _ q1492) (fun _ h => h) rfl (tyX7_ok 25 (Nat.le_of_ble_eq_true rfl)) rfl rfl (Nat.le_of_ble_eq_true rfl) dX7_comesAgain_77 (fun H locs hP hD hS => ?_)
                have hP : va_P G.1 zcl (mW G ad m_status m_top m_bottom m_taped m_size m_token m_from m_end m_value m_faultKind m_faultPlace m_faults m_seen m_depth m_counted (nI s_4) m_round m_tried m_triedMany m_drawn m_ranSteps m_isTold m_marks m_at m_names m_sort m_trayMany m_trays m_tape m_text m_opened t_1 (upd s_2.2 s_2.1 (mf_becomes m_at t_1 Wd R (s_2.2 (s_2.1 - 1)) (m_at 10))) m_ways m_further m_canBe m_loops m_ran m_told0) H := hP
                have hD : va_D A (mW G ad m_status m_top m_bottom m_taped m_size m_token m_from m_end m_value m_faultKind m_faultPlace m_faults m_seen m_depth m_counted (nI s_4) m_round m_tried m_triedMany m_drawn m_ranSteps m_isTold m_marks m_at m_names m_sort m_trayMany m_trays m_tape m_text m_opened t_1 (upd s_2.2 s_2.1 (mf_becomes m_at t_1 Wd R (s_2.2 (s_2.1 - 1)) (m_at 10))) m_ways m_further m_canBe m_loops m_ran m_told0) := hD
                refine lv_aload_n hx hb dX7_comesAgain_80 rfl (lv_at hl 2 rfl) ?_
                refine lv_iload_n hx hb dX7_comesAgain_81 rfl (lv_at hl 1 rfl) ?_
                refine lv_iload_n hx hb dX7_comesAgain_82 rfl (lv_at hl 0 rfl) ?_
                refine zr_isubN s_2.1 s_4 (by omega) hx hb dX7_comesAgain_83 ?_
                refine va_put (D := G.1) (ci := 7) (v := .int (nI (s_2.1 - s_4))) (ty := .int) (C := RX7) (T := TX7) (N := 39) hx hb hts in_X7 tyX7 tyX7_ok nmX7 hown hK.1 hP hD hS 0 rfl rfl 26 (Nat.le_of_ble_eq_true rfl) (hts _ q1493) (fun _ h => h) rfl (tyX7_ok 26 (Nat.le_of_ble_eq_true rfl)) rfl rfl (Nat.le_of_ble_eq_true rfl) dX7_comesAgain_84 (fun H locs hP hD hS => ?_)
                have hP : va_P G.1 zcl (mW G ad m_status m_top m_bottom m_taped m_size m_token m_from m_end m_value m_faultKind m_faultPlace m_faults m_seen m_depth m_counted (nI s_4) (nI (s_2.1 - s_4)) m_tried m_triedMany m_drawn m_ranSteps m_isTold m_marks m_at m_names m_sort m_trayMany m_trays m_tape m_text m_opened t_1 (upd s_2.2 s_2.1 (mf_becomes m_at t_1 Wd R (s_2.2 (s_2.1 - 1)) (m_at 10))) m_ways m_further m_canBe m_loops m_ran m_told0) H := hP
                have hD : va_D A (mW G ad m_status m_top m_bottom m_taped m_size m_token m_from m_end m_value m_faultKind m_faultPlace m_faults m_seen m_depth m_counted (nI s_4) (nI (s_2.1 - s_4)) m_tried m_triedMany m_drawn m_ranSteps m_isTold m_marks m_at m_names m_sort m_trayMany m_trays m_tape m_text m_opened t_1 (upd s_2.2 s_2.1 (mf_becomes m_at t_1 Wd R (s_2.2 (s_2.1 - 1)) (m_at 10))) m_ways m_further m_canBe m_loops m_ran m_told0) := hD
                refine lv_iconst (v := 1) hx hb dX7_comesAgain_87 (by decide) ?_
                have hr_4 : mf_comesAgain_L52 m_at Wd R t_1 s_2 0 = .inr (true, nI s_4, nI (s_2.1 - s_4), t_1, upd s_2.2 s_2.1 (mf_becomes m_at t_1 Wd R (s_2.2 (s_2.1 - 1)) (m_at 10))) := hR_4.symm.trans (zw_r (by rw [mf_comesAgain_B52, if_neg c_5, if_pos c_6]))
                have hr_2 : mf_comesAgain_L18 m_at Wd R t_1 (1, upd m_then 0 (m_at 3)) = .inr (true, nI s_4, nI (s_2.1 - s_4), t_1, upd s_2.2 s_2.1 (mf_becomes m_at t_1 Wd R (s_2.2 (s_2.1 - 1)) (m_at 10))) := hR_2.symm.trans (zw_r (by rw [mf_comesAgain_B18, if_neg c_3, zcase_r hr_4]))
                have e_ : mf_comesAgain m_lead m_round m_at m_beside m_then Wd R = (true, nI s_4, nI (s_2.1 - s_4), t_1, upd s_2.2 s_2.1 (mf_becomes m_at t_1 Wd R (s_2.2 (s_2.1 - 1)) (m_at 10))) := by rw [mf_comesAgain, zlet_eq ht_1, zcase_r hr_2]
                exact zr_mz hx hb hr hlocks hP hD hS dX7_comesAgain_88 rfl (by rw [e_]; rfl) (by rw [e_]) (by rw [e_]; exact (fun z => by first | exact absurd z Bool.false_ne_true | exact zca _ _ (by omega) (by omega)))
              · refine lv_goto (tgt := 89) hx hb dX7_comesAgain_72 (by decide) ?_
                refine lv_iinc (v := nI (s_4 + 1)) (lv' := [(2, .int (nI (s_4 + 1))), (1, .int (nI s_2.1)), (0, .ref (ad 0))]) hx hb dX7_comesAgain_89 hl (k := 0) rfl (nI_add s_4 1) (by decide) rfl (fun ls hl => ?_)
                refine lv_goto (tgt := 52) hx hb dX7_comesAgain_92 (by decide) ?_
                exact ih_4 (s_4 + 1) (by omega) ((zw_l (by rw [mf_comesAgain_B52, if_neg c_5, if_neg c_6])).symm.trans hR_4) (by omega) H locs hP hD hS ls (lv_sub hl [0, 1, 2] rfl)
        exact hlp_4 _ 0 (Nat.lt_succ_self _) (by rw [mf_comesAgain_L52]) (by omega) H locs hP hD hS ls (lv_sub hl [0, 1, 2] rfl)
  exact hlp_2 _ (1, upd m_then 0 (m_at 3)) (Nat.lt_succ_self _) (by rw [mf_comesAgain_L18]) (by omega) H locs hP hD hS ls (lv_sub hl [0, 1] rfl)
