def mf_plain_B2 (base : Nat) (k_1 : Nat) (s_1 : (Nat → Int32)) : (Nat → Int32) :=
  upd s_1 (base + k_1) 0
def mf_plain_L2 (base : Nat) (s_1 : (Nat → Int32)) : (Nat → Int32) := zf (mf_plain_B2 base) s_1 410
def mf_plain (m_at : Nat → Int32) (base : Nat) : (Nat → Int32) :=
  zlet (mf_plain_L2 base m_at) (fun s_1 =>
  (upd (upd s_1 (base + 10) (-1)) (base + 11) (-1)))
theorem hd_X7_plain : yX7_plain.cls = RX7 ∧ yX7_plain.cls ≠ "java/lang/invoke/MethodHandle" ∧ yX7_plain.cls ≠ "java/lang/invoke/VarHandle" ∧ (parseMethodDescriptor yX7_plain.desc).map (fun d => d.parameters.length) = some 1 := by decide +kernel
set_option maxHeartbeats 4000000 in
set_option maxRecDepth 100000 in
theorem mt_mf_plain (l : Launch) (G : zG) (ad : Nat → Nat) (m_status : Int32) (m_top : Int64) (m_bottom : Int64) (m_taped : Int32) (m_size : Int32) (m_token : Int32) (m_from : Int32) (m_end : Int32) (m_value : Int32) (m_faultKind : Int32) (m_faultPlace : Int32) (m_faults : Int32) (m_seen : Int32) (m_depth : Int32) (m_counted : Int32) (m_lead : Int32) (m_round : Int32) (m_tried : Int32) (m_triedMany : Int32) (m_drawn : Int32) (m_ranSteps : Int32) (m_isTold : Bool) (m_marks : Int32) (m_at : Nat → Int32) (m_names : Nat → Int64) (m_sort : Nat → Int32) (m_trayMany : Nat → Int32) (m_trays : Nat → Int64) (m_tape : Nat → Int32) (m_text : Nat → Int32) (m_opened : Nat → Int32) (m_beside : Nat → Int32) (m_then : Nat → Int32) (m_ways : Nat → Int64) (m_further : Nat → Int64) (m_canBe : Nat → Int32) (m_loops : Nat → Int32) (m_ran : Nat → Int32) (m_told0 : Nat → Int32) (base : Nat) (hbs : base ≤ 1640) (sz : Nat) : Met l yX7_plain (ws_ yX7_plain cX7_plain 3 none) (zR 1 0 0) (zPm G sz [.ref (ad 0), .int (nI base)] (mW G ad m_status m_top m_bottom m_taped m_size m_token m_from m_end m_value m_faultKind m_faultPlace m_faults m_seen m_depth m_counted m_lead m_round m_tried m_triedMany m_drawn m_ranSteps m_isTold m_marks m_at m_names m_sort m_trayMany m_trays m_tape m_text m_opened m_beside m_then m_ways m_further m_canBe m_loops m_ran m_told0)) (zQm G (True) none (mW G ad m_status m_top m_bottom m_taped m_size m_token m_from m_end m_value m_faultKind m_faultPlace m_faults m_seen m_depth m_counted m_lead m_round m_tried m_triedMany m_drawn m_ranSteps m_isTold m_marks (mf_plain m_at base) m_names m_sort m_trayMany m_trays m_tape m_text m_opened m_beside m_then m_ways m_further m_canBe m_loops m_ran m_told0) (va_A (mW G ad m_status m_top m_bottom m_taped m_size m_token m_from m_end m_value m_faultKind m_faultPlace m_faults m_seen m_depth m_counted m_lead m_round m_tried m_triedMany m_drawn m_ranSteps m_isTold m_marks m_at m_names m_sort m_trayMany m_trays m_tape m_text m_opened m_beside m_then m_ways m_further m_canBe m_loops m_ran m_told0) sz)) 0 0 (va_A (mW G ad m_status m_top m_bottom m_taped m_size m_token m_from m_end m_value m_faultKind m_faultPlace m_faults m_seen m_depth m_counted m_lead m_round m_tried m_triedMany m_drawn m_ranSteps m_isTold m_marks m_at m_names m_sort m_trayMany m_trays m_tape m_text m_opened m_beside m_then m_ways m_further m_canBe m_loops m_ran m_told0) sz) := by
  refine zr_entM (by decide) (Nat.le_of_ble_eq_true rfl) ?_
  intro p e s m below meth c ⟨hx, hb, hr, hml, hown, hts, hlocks, hnm⟩ ls hl hP hK A hE hA hD hS
  have hown : s.vm.findClass RX7 = some m.cls := hown
  have hl : lv_has ls 3 [(0, .ref (ad 0)), (1, .int (nI base))] := hl
  obtain ⟨H, hH⟩ : ∃ H, H = s.heap := ⟨_, rfl⟩
  obtain ⟨locs, hlo⟩ : ∃ L : List Loc, L = [] := ⟨_, rfl⟩
  rw [← hH] at hP
  have hS : va_S A s.heap H locs := by rw [hH, hlo]; exact va_S.rf
  have hgo : W p l e (zR 1 0 0) s m ([.ref (ad 0), .int (nI base)] : List Value).toArray below meth c H locs 0 0 (MQ below (zQm G (True) none (mW G ad m_status m_top m_bottom m_taped m_size m_token m_from m_end m_value m_faultKind m_faultPlace m_faults m_seen m_depth m_counted m_lead m_round m_tried m_triedMany m_drawn m_ranSteps m_isTold m_marks (mf_plain m_at base) m_names m_sort m_trayMany m_trays m_tape m_text m_opened m_beside m_then m_ways m_further m_canBe m_loops m_ran m_told0) A) ([.ref (ad 0), .int (nI base)] : List Value).toArray s 0 0 A) (F0 m 0 ls []) := ?_
  · rw [hH, hlo] at hgo; exact hgo
  clear hH hlo
  refine lv_iconst (v := 0) hx hb dX7_plain_0 (by decide) ?_
  refine lv_istore_n (lv' := [(2, .int 0), (0, .ref (ad 0)), (1, .int (nI base))]) hx hb dX7_plain_1 rfl hl (by decide) rfl (fun ls hl => ?_)
  have hlp_1 : ∀ (n k_1 : Nat) (s_1 : (Nat → Int32)), k_1 ≤ 410 → 410 < k_1 + n → zf (mf_plain_B2 base) m_at k_1 = s_1 → ∀ (H : Heap) (locs : List Loc), va_P G.1 zcl (mW G ad m_status m_top m_bottom m_taped m_size m_token m_from m_end m_value m_faultKind m_faultPlace m_faults m_seen m_depth m_counted m_lead m_round m_tried m_triedMany m_drawn m_ranSteps m_isTold m_marks s_1 m_names m_sort m_trayMany m_trays m_tape m_text m_opened m_beside m_then m_ways m_further m_canBe m_loops m_ran m_told0) H → va_D A (mW G ad m_status m_top m_bottom m_taped m_size m_token m_from m_end m_value m_faultKind m_faultPlace m_faults m_seen m_depth m_counted m_lead m_round m_tried m_triedMany m_drawn m_ranSteps m_isTold m_marks s_1 m_names m_sort m_trayMany m_trays m_tape m_text m_opened m_beside m_then m_ways m_further m_canBe m_loops m_ran m_told0) → va_S A s.heap H locs → ∀ ls : Array Slot, lv_has ls 3 [(2, .int (nI k_1)), (0, .ref (ad 0)), (1, .int (nI base))] → W p l e (zR 1 0 0) s m ([.ref (ad 0), .int (nI base)] : List Value).toArray below meth c H locs 0 0 (MQ below (zQm G (True) none (mW G ad m_status m_top m_bottom m_taped m_size m_token m_from m_end m_value m_faultKind m_faultPlace m_faults m_seen m_depth m_counted m_lead m_round m_tried m_triedMany m_drawn m_ranSteps m_isTold m_marks (mf_plain m_at base) m_names m_sort m_trayMany m_trays m_tape m_text m_opened m_beside m_then m_ways m_further m_canBe m_loops m_ran m_told0) A) ([.ref (ad 0), .int (nI base)] : List Value).toArray s 0 0 A) (F0 m 2 ls []) := by
    intro n
    induction n with
    | zero => intro k_1 s_1 h1 h2; exact absurd h2 (by omega)
    | succ n ih_1 =>
      intro k_1 s_1 hk_1 hn_1 hst_1 H locs hP hD hS ls hl
      refine lv_iload_n hx hb dX7_plain_2 rfl (lv_at hl 0 rfl) ?_
      refine lv_sipush (v := 410) hx hb dX7_plain_3 (by decide) ?_
      refine zr_ge k_1 410 (by omega) (by decide) (tgt := 24) hx hb dX7_plain_6 (by decide) (fun c_1 => ?_) (fun c_1 => ?_)
      · have ek_1 : k_1 = 410 := Nat.le_antisymm hk_1 c_1
        have hs_1 : mf_plain_L2 base m_at = s_1 := by rw [ek_1] at hst_1; exact hst_1
        have hl := lv_sub hl (l' := _) [1, 2] rfl
        refine lv_aload_n hx hb dX7_plain_24 rfl (lv_at hl 0 rfl) ?_
        refine va_get (D := G.1) (ci := 7) (v := .ref (ad 1)) (C := RX7) (T := TX7) (N := 39) hx hb hts in_X7 hown hK.1 hP 0 rfl rfl 0 (Nat.le_of_ble_eq_true rfl) (hts _ q1467) (fun _ h => h) rfl dX7_plain_25 ?_
        refine lv_iload_n hx hb dX7_plain_28 rfl (lv_at hl 1 rfl) ?_
        refine lv_bipush (v := 10) hx hb dX7_plain_29 (by decide) ?_
        refine zr_iaddN base 10 hx hb dX7_plain_31 ?_
        refine lv_iconst (v := (-1)) hx hb dX7_plain_32 (by decide) ?_
        refine zr_iast (base + 10) (ws' := (mW G ad m_status m_top m_bottom m_taped m_size m_token m_from m_end m_value m_faultKind m_faultPlace m_faults m_seen m_depth m_counted m_lead m_round m_tried m_triedMany m_drawn m_ranSteps m_isTold m_marks (upd s_1 (base + 10) (-1)) m_names m_sort m_trayMany m_trays m_tape m_text m_opened m_beside m_then m_ways m_further m_canBe m_loops m_ran m_told0)) hx hb hK hP hD hS 1 rfl rfl (Nat.le_of_ble_eq_true rfl) rfl (by omega) rfl dX7_plain_33 (fun H locs hP hD hS => ?_)
        refine lv_aload_n hx hb dX7_plain_34 rfl (lv_at hl 0 rfl) ?_
        refine va_get (D := G.1) (ci := 7) (v := .ref (ad 1)) (C := RX7) (T := TX7) (N := 39) hx hb hts in_X7 hown hK.1 hP 0 rfl rfl 0 (Nat.le_of_ble_eq_true rfl) (hts _ q1467) (fun _ h => h) rfl dX7_plain_35 ?_
        refine lv_iload_n hx hb dX7_plain_38 rfl (lv_at hl 1 rfl) ?_
        refine lv_bipush (v := 11) hx hb dX7_plain_39 (by decide) ?_
        refine zr_iaddN base 11 hx hb dX7_plain_41 ?_
        refine lv_iconst (v := (-1)) hx hb dX7_plain_42 (by decide) ?_
        refine zr_iast (base + 11) (ws' := (mW G ad m_status m_top m_bottom m_taped m_size m_token m_from m_end m_value m_faultKind m_faultPlace m_faults m_seen m_depth m_counted m_lead m_round m_tried m_triedMany m_drawn m_ranSteps m_isTold m_marks (upd (upd s_1 (base + 10) (-1)) (base + 11) (-1)) m_names m_sort m_trayMany m_trays m_tape m_text m_opened m_beside m_then m_ways m_further m_canBe m_loops m_ran m_told0)) hx hb hK hP hD hS 1 rfl rfl (Nat.le_of_ble_eq_true rfl) rfl (by omega) rfl dX7_plain_43 (fun H locs hP hD hS => ?_)
        have e_ : mf_plain m_at base = upd (upd s_1 (base + 10) (-1)) (base + 11) (-1) := by rw [mf_plain, zlet_eq hs_1]
        exact zr_mv hx hb hr hlocks hP hD hS dX7_plain_44 rfl (by rw [e_]) trivial
      · have hlt_1 : k_1 < 410 := Nat.lt_of_not_le c_1
        refine lv_aload_n hx hb dX7_plain_9 rfl (lv_at hl 1 rfl) ?_
        refine va_get (D := G.1) (ci := 7) (v := .ref (ad 1)) (C := RX7) (T := TX7) (N := 39) hx hb hts in_X7 hown hK.1 hP 0 rfl rfl 0 (Nat.le_of_ble_eq_true rfl) (hts _ q1467) (fun _ h => h) rfl dX7_plain_10 ?_
        refine lv_iload_n hx hb dX7_plain_13 rfl (lv_at hl 2 rfl) ?_
        refine lv_iload_n hx hb dX7_plain_14 rfl (lv_at hl 0 rfl) ?_
        refine zr_iaddN base k_1 hx hb dX7_plain_15 ?_
        refine lv_iconst (v := 0) hx hb dX7_plain_16 (by decide) ?_
        refine zr_iast (base + k_1) (ws' := (mW G ad m_status m_top m_bottom m_taped m_size m_token m_from m_end m_value m_faultKind m_faultPlace m_faults m_seen m_depth m_counted m_lead m_round m_tried m_triedMany m_drawn m_ranSteps m_isTold m_marks (upd s_1 (base + k_1) 0) m_names m_sort m_trayMany m_trays m_tape m_text m_opened m_beside m_then m_ways m_further m_canBe m_loops m_ran m_told0)) hx hb hK hP hD hS 1 rfl rfl (Nat.le_of_ble_eq_true rfl) rfl (by omega) rfl dX7_plain_17 (fun H locs hP hD hS => ?_)
        refine lv_iinc (v := nI (k_1 + 1)) (lv' := [(2, .int (nI (k_1 + 1))), (0, .ref (ad 0)), (1, .int (nI base))]) hx hb dX7_plain_18 hl (k := 0) rfl (nI_add k_1 1) (by decide) rfl (fun ls hl => ?_)
        refine lv_goto (tgt := 2) hx hb dX7_plain_21 (by decide) ?_
        exact ih_1 (k_1 + 1) (upd s_1 (base + k_1) 0) hlt_1 (by omega) (zf_s hst_1 (by rw [mf_plain_B2])) H locs hP hD hS ls (lv_sub hl [0, 1, 2] rfl)
  exact hlp_1 (410 + 1) 0 m_at (Nat.zero_le _) (by omega) rfl H locs hP hD hS ls (lv_sub hl [0, 1, 2] rfl)
theorem zf_fill {b : Nat} {v : Int32} (a : Nat → Int32) : ∀ n j, zf (fun k s => upd s (b + k) v) a n j = if b ≤ j ∧ j < b + n then v else a j
  | 0, j => by rw [if_neg (by omega)]; rfl
  | n + 1, j => by
    show upd (zf (fun k s => upd s (b + k) v) a n) (b + n) v j = _
    by_cases h : j = b + n
    · rw [h, if_pos (by omega)]
      exact if_pos rfl
    · rw [pk_un h, zf_fill a n j]
      by_cases q : b ≤ j ∧ j < b + n
      · rw [if_pos q, if_pos (by omega)]
      · rw [if_neg q, if_neg (by omega)]
theorem plain_T {a t : Nat → Int32} {Wd R nr nc : Nat} (h : mOK a Wd R nr nc) (e : mf_plain a 1640 = t) : mTW t Wd R nr nc := by
  have hf : ∀ j, mf_plain a 1640 j = if j = 1651 ∨ j = 1650 then -1 else if 1640 ≤ j ∧ j < 2050 then 0 else a j := by
    intro j
    show upd (upd (zf (fun k s => upd s (1640 + k) 0) a 410) 1650 (-1)) 1651 (-1) j = _
    by_cases h1 : j = 1651
    · rw [h1]; rfl
    · rw [pk_un h1]
      by_cases h2 : j = 1650
      · rw [h2]; rfl
      · rw [pk_un h2, zf_fill, if_neg (by omega : ¬ (j = 1651 ∨ j = 1650))]
  have lo : ∀ j, j < 1640 → t j = a j := fun j hj => by rw [← e, hf, if_neg (by omega), if_neg (by omega)]
  have hi : ∀ j, j = 1640 ∨ j = 1641 ∨ j = 1645 ∨ j = 1646 → t j = 0 := fun j hj => by rw [← e, hf, if_neg (by omega), if_pos (by omega)]
  have z5 : ∀ n, mIn 0 n := fun n => ⟨by decide, Nat.zero_le _⟩
  refine ⟨?_, ?_⟩
  · unfold mOK at h ⊢
    rw [lo 0 (by omega), lo 1 (by omega), lo 5 (by omega), lo 6 (by omega), lo 10 (by omega)]
    exact h
  · rw [hi 1640 (by omega), hi 1641 (by omega), hi 1645 (by omega), hi 1646 (by omega)]
    exact ⟨z5 5, z5 6, z5 4, z5 6⟩
def mf_begins_B26 (m_tape : Nat → Int32) (nn : Int32) (k_4 : Nat) (s_4 : (Nat → Int32)) : (Nat → Int32) :=
  upd s_4 k_4 (vp_nar .byte (m_tape k_4))
def mf_begins_L26 (m_tape : Nat → Int32) (nn : Int32) (s_4 : (Nat → Int32)) : (Nat → Int32) := zf (mf_begins_B26 m_tape nn) s_4 nn.toNatClampNeg
def mf_begins (m_taped : Int32) (zs : Nat) (m_token : Int32) (fr : Nat) (en : Nat) (m_value : Int32) (m_faultPlace : Int32) (m_faults : Int32) (m_seen : Int32) (m_tape : Nat → Int32) (m_text : Nat → Int32) (nn : Int32) (most : Nat) : Bool × Int32 × Nat × Int32 × Nat × Nat × Int32 × Int32 × Int32 × Int32 × (Nat → Int32) :=
  (if nn < 0 then
    (false, m_taped, zs, m_token, fr, en, m_value, m_faultPlace, m_faults, m_seen, m_text)
  else
    (if m_taped < nn then
      (false, m_taped, zs, m_token, fr, en, m_value, m_faultPlace, m_faults, m_seen, m_text)
    else
      (if nn ≤ (nI most) then
        zlet (mf_begins_L26 m_tape nn m_text) (fun s_4 =>
        zlet (mf_onward nn.toNatClampNeg 0 s_4) (fun t_5 =>
        (true, 0, nn.toNatClampNeg, t_5.1, t_5.2.1, t_5.2.2.1, t_5.2.2.2, (-1), 0, 0, s_4)))
      else
        (false, m_taped, zs, m_token, fr, en, m_value, m_faultPlace, m_faults, m_seen, m_text))))
theorem hd_X7_begins : yX7_begins.cls = RX7 ∧ yX7_begins.cls ≠ "java/lang/invoke/MethodHandle" ∧ yX7_begins.cls ≠ "java/lang/invoke/VarHandle" ∧ (parseMethodDescriptor yX7_begins.desc).map (fun d => d.parameters.length) = some 2 := by decide +kernel
set_option maxHeartbeats 4000000 in
set_option maxRecDepth 100000 in
theorem mt_mf_begins (l : Launch) (G : zG) (ad : Nat → Nat) (m_status : Int32) (m_top : Int64) (m_bottom : Int64) (m_taped : Int32) (zs : Nat) (m_token : Int32) (fr : Nat) (en : Nat) (m_value : Int32) (m_faultKind : Int32) (m_faultPlace : Int32) (m_faults : Int32) (m_seen : Int32) (m_depth : Int32) (m_counted : Int32) (m_lead : Int32) (m_round : Int32) (m_tried : Int32) (m_triedMany : Int32) (m_drawn : Int32) (m_ranSteps : Int32) (m_isTold : Bool) (m_marks : Int32) (m_at : Nat → Int32) (m_names : Nat → Int64) (m_sort : Nat → Int32) (m_trayMany : Nat → Int32) (m_trays : Nat → Int64) (m_tape : Nat → Int32) (m_text : Nat → Int32) (m_opened : Nat → Int32) (m_beside : Nat → Int32) (m_then : Nat → Int32) (m_ways : Nat → Int64) (m_further : Nat → Int64) (m_canBe : Nat → Int32) (m_loops : Nat → Int32) (m_ran : Nat → Int32) (m_told0 : Nat → Int32) (nn : Int32) (most : Nat) (hzs : zs ≤ 900) (hen : en ≤ zs) (hfr : fr ≤ zs) (hmo : most ≤ 900) (sz : Nat) : Met l yX7_begins (ws_ yX7_begins cX7_begins 4 (some .boolean)) (zR 3 0 0) (zPm G sz [.ref (ad 0), .int nn, .int (nI most)] (mW G ad m_status m_top m_bottom m_taped (nI zs) m_token (nI fr) (nI en) m_value m_faultKind m_faultPlace m_faults m_seen m_depth m_counted m_lead m_round m_tried m_triedMany m_drawn m_ranSteps m_isTold m_marks m_at m_names m_sort m_trayMany m_trays m_tape m_text m_opened m_beside m_then m_ways m_further m_canBe m_loops m_ran m_told0)) (zQm G ((((mf_begins m_taped zs m_token fr en m_value m_faultPlace m_faults m_seen m_tape m_text nn most).2.2.1) ≤ 900 ∧ ((mf_begins m_taped zs m_token fr en m_value m_faultPlace m_faults m_seen m_tape m_text nn most).2.2.2.2.2.1) ≤ ((mf_begins m_taped zs m_token fr en m_value m_faultPlace m_faults m_seen m_tape m_text nn most).2.2.1) ∧ ((mf_begins m_taped zs m_token fr en m_value m_faultPlace m_faults m_seen m_tape m_text nn most).2.2.2.2.1) ≤ ((mf_begins m_taped zs m_token fr en m_value m_faultPlace m_faults m_seen m_tape m_text nn most).2.2.1))) (some (.int (zb ((mf_begins m_taped zs m_token fr en m_value m_faultPlace m_faults m_seen m_tape m_text nn most).1)))) (mW G ad m_status m_top m_bottom ((mf_begins m_taped zs m_token fr en m_value m_faultPlace m_faults m_seen m_tape m_text nn most).2.1) (nI ((mf_begins m_taped zs m_token fr en m_value m_faultPlace m_faults m_seen m_tape m_text nn most).2.2.1)) ((mf_begins m_taped zs m_token fr en m_value m_faultPlace m_faults m_seen m_tape m_text nn most).2.2.2.1) (nI ((mf_begins m_taped zs m_token fr en m_value m_faultPlace m_faults m_seen m_tape m_text nn most).2.2.2.2.1)) (nI ((mf_begins m_taped zs m_token fr en m_value m_faultPlace m_faults m_seen m_tape m_text nn most).2.2.2.2.2.1)) ((mf_begins m_taped zs m_token fr en m_value m_faultPlace m_faults m_seen m_tape m_text nn most).2.2.2.2.2.2.1) m_faultKind ((mf_begins m_taped zs m_token fr en m_value m_faultPlace m_faults m_seen m_tape m_text nn most).2.2.2.2.2.2.2.1) ((mf_begins m_taped zs m_token fr en m_value m_faultPlace m_faults m_seen m_tape m_text nn most).2.2.2.2.2.2.2.2.1) ((mf_begins m_taped zs m_token fr en m_value m_faultPlace m_faults m_seen m_tape m_text nn most).2.2.2.2.2.2.2.2.2.1) m_depth m_counted m_lead m_round m_tried m_triedMany m_drawn m_ranSteps m_isTold m_marks m_at m_names m_sort m_trayMany m_trays m_tape ((mf_begins m_taped zs m_token fr en m_value m_faultPlace m_faults m_seen m_tape m_text nn most).2.2.2.2.2.2.2.2.2.2) m_opened m_beside m_then m_ways m_further m_canBe m_loops m_ran m_told0) (va_A (mW G ad m_status m_top m_bottom m_taped (nI zs) m_token (nI fr) (nI en) m_value m_faultKind m_faultPlace m_faults m_seen m_depth m_counted m_lead m_round m_tried m_triedMany m_drawn m_ranSteps m_isTold m_marks m_at m_names m_sort m_trayMany m_trays m_tape m_text m_opened m_beside m_then m_ways m_further m_canBe m_loops m_ran m_told0) sz)) 0 0 (va_A (mW G ad m_status m_top m_bottom m_taped (nI zs) m_token (nI fr) (nI en) m_value m_faultKind m_faultPlace m_faults m_seen m_depth m_counted m_lead m_round m_tried m_triedMany m_drawn m_ranSteps m_isTold m_marks m_at m_names m_sort m_trayMany m_trays m_tape m_text m_opened m_beside m_then m_ways m_further m_canBe m_loops m_ran m_told0) sz) := by
  refine zr_entM (by decide) (Nat.le_of_ble_eq_true rfl) ?_
  intro p e s m below meth c ⟨hx, hb, hr, hml, hown, hts, hlocks, hnm⟩ ls hl hP hK A hE hA hD hS
  have hown : s.vm.findClass RX7 = some m.cls := hown
  have hl : lv_has ls 4 [(0, .ref (ad 0)), (1, .int nn), (2, .int (nI most))] := hl
  obtain ⟨H, hH⟩ : ∃ H, H = s.heap := ⟨_, rfl⟩
  obtain ⟨locs, hlo⟩ : ∃ L : List Loc, L = [] := ⟨_, rfl⟩
  rw [← hH] at hP
  have hS : va_S A s.heap H locs := by rw [hH, hlo]; exact va_S.rf
  have hgo : W p l e (zR 3 0 0) s m ([.ref (ad 0), .int nn, .int (nI most)] : List Value).toArray below meth c H locs 0 0 (MQ below (zQm G ((((mf_begins m_taped zs m_token fr en m_value m_faultPlace m_faults m_seen m_tape m_text nn most).2.2.1) ≤ 900 ∧ ((mf_begins m_taped zs m_token fr en m_value m_faultPlace m_faults m_seen m_tape m_text nn most).2.2.2.2.2.1) ≤ ((mf_begins m_taped zs m_token fr en m_value m_faultPlace m_faults m_seen m_tape m_text nn most).2.2.1) ∧ ((mf_begins m_taped zs m_token fr en m_value m_faultPlace m_faults m_seen m_tape m_text nn most).2.2.2.2.1) ≤ ((mf_begins m_taped zs m_token fr en m_value m_faultPlace m_faults m_seen m_tape m_text nn most).2.2.1))) (some (.int (zb ((mf_begins m_taped zs m_token fr en m_value m_faultPlace m_faults m_seen m_tape m_text nn most).1)))) (mW G ad m_status m_top m_bottom ((mf_begins m_taped zs m_token fr en m_value m_faultPlace m_faults m_seen m_tape m_text nn most).2.1) (nI ((mf_begins m_taped zs m_token fr en m_value m_faultPlace m_faults m_seen m_tape m_text nn most).2.2.1)) ((mf_begins m_taped zs m_token fr en m_value m_faultPlace m_faults m_seen m_tape m_text nn most).2.2.2.1) (nI ((mf_begins m_taped zs m_token fr en m_value m_faultPlace m_faults m_seen m_tape m_text nn most).2.2.2.2.1)) (nI ((mf_begins m_taped zs m_token fr en m_value m_faultPlace m_faults m_seen m_tape m_text nn most).2.2.2.2.2.1)) ((mf_begins m_taped zs m_token fr en m_value m_faultPlace m_faults m_seen m_tape m_text nn most).2.2.2.2.2.2.1) m_faultKind ((mf_begins m_taped zs m_token fr en m_value m_faultPlace m_faults m_seen m_tape m_text nn most).2.2.2.2.2.2.2.1) ((mf_begins m_taped zs m_token fr en m_value m_faultPlace m_faults m_seen m_tape m_text nn most).2.2.2.2.2.2.2.2.1) ((mf_begins m_taped zs m_token fr en m_value m_faultPlace m_faults m_seen m_tape m_text nn most).2.2.2.2.2.2.2.2.2.1) m_depth m_counted m_lead m_round m_tried m_triedMany m_drawn m_ranSteps m_isTold m_marks m_at m_names m_sort m_trayMany m_trays m_tape ((mf_begins m_taped zs m_token fr en m_value m_faultPlace m_faults m_seen m_tape m_text nn most).2.2.2.2.2.2.2.2.2.2) m_opened m_beside m_then m_ways m_further m_canBe m_loops m_ran m_told0) A) ([.ref (ad 0), .int nn, .int (nI most)] : List Value).toArray s 0 0 A) (F0 m 0 ls []) := ?_
  · rw [hH, hlo] at hgo; exact hgo
  clear hH hlo
  refine lv_iload_n hx hb dX7_begins_0 rfl (lv_at hl 1 rfl) ?_
  refine lv_if_lt (tgt := 17) hx hb dX7_begins_1 (by decide) (fun c_1 => ?_) (fun c_1 => ?_)
  · refine lv_iconst (v := 0) hx hb dX7_begins_17 (by decide) ?_
    have e_ : mf_begins m_taped zs m_token fr en m_value m_faultPlace m_faults m_seen m_tape m_text nn most = (false, m_taped, zs, m_token, fr, en, m_value, m_faultPlace, m_faults, m_seen, m_text) := by rw [mf_begins, if_pos c_1]
    exact zr_mz hx hb hr hlocks hP hD hS dX7_begins_18 rfl (by rw [e_]; rfl) (by rw [e_]) (by rw [e_]; exact (by first | exact ⟨by omega, by omega, by omega⟩ | exact ⟨by dsimp only; omega, by dsimp only; omega, by dsimp only; omega⟩))
  · have hn0 := c_1
    refine lv_iload_n hx hb dX7_begins_4 rfl (lv_at hl 1 rfl) ?_
    refine lv_aload_n hx hb dX7_begins_5 rfl (lv_at hl 0 rfl) ?_
    refine va_get (D := G.1) (ci := 7) (v := .int m_taped) (C := RX7) (T := TX7) (N := 39) hx hb hts in_X7 hown hK.1 hP 0 rfl rfl 10 (Nat.le_of_ble_eq_true rfl) (hts _ q1477) (fun _ h => h) rfl dX7_begins_6 ?_
    refine lv_icmp_gt (tgt := 17) hx hb dX7_begins_9 (by decide) (fun c_2 => ?_) (fun c_2 => ?_)
    · refine lv_iconst (v := 0) hx hb dX7_begins_17 (by decide) ?_
      have e_ : mf_begins m_taped zs m_token fr en m_value m_faultPlace m_faults m_seen m_tape m_text nn most = (false, m_taped, zs, m_token, fr, en, m_value, m_faultPlace, m_faults, m_seen, m_text) := by rw [mf_begins, if_neg c_1, if_pos c_2]
      exact zr_mz hx hb hr hlocks hP hD hS dX7_begins_18 rfl (by rw [e_]; rfl) (by rw [e_]) (by rw [e_]; exact (by first | exact ⟨by omega, by omega, by omega⟩ | exact ⟨by dsimp only; omega, by dsimp only; omega, by dsimp only; omega⟩))
    · refine lv_iload_n hx hb dX7_begins_12 rfl (lv_at hl 1 rfl) ?_
      refine lv_iload_n hx hb dX7_begins_13 rfl (lv_at hl 2 rfl) ?_
      refine lv_icmp_le (tgt := 19) hx hb dX7_begins_14 (by decide) (fun c_3 => ?_) (fun c_3 => ?_)
      · have hn9 := z_le most (by omega) hn0 c_3
        have hl : lv_has ls 4 [(0, .ref (ad 0)), (1, .int (nI nn.toNatClampNeg)), (2, .int (nI most))] := by rw [← (z_nn hn0 : nn = nI nn.toNatClampNeg)]; exact hl
        refine lv_aload_n hx hb dX7_begins_19 rfl (lv_at hl 0 rfl) ?_
        refine lv_iload_n hx hb dX7_begins_20 rfl (lv_at hl 1 rfl) ?_
        refine va_put (D := G.1) (ci := 7) (v := .int (nI nn.toNatClampNeg)) (ty := .int) (C := RX7) (T := TX7) (N := 39) hx hb hts in_X7 tyX7 tyX7_ok nmX7 hown hK.1 hP hD hS 0 rfl rfl 11 (Nat.le_of_ble_eq_true rfl) (hts _ q1478) (fun _ h => h) rfl (tyX7_ok 11 (Nat.le_of_ble_eq_true rfl)) rfl rfl (Nat.le_of_ble_eq_true rfl) dX7_begins_21 (fun H locs hP hD hS => ?_)
        have hP : va_P G.1 zcl (mW G ad m_status m_top m_bottom m_taped (nI nn.toNatClampNeg) m_token (nI fr) (nI en) m_value m_faultKind m_faultPlace m_faults m_seen m_depth m_counted m_lead m_round m_tried m_triedMany m_drawn m_ranSteps m_isTold m_marks m_at m_names m_sort m_trayMany m_trays m_tape m_text m_opened m_beside m_then m_ways m_further m_canBe m_loops m_ran m_told0) H := hP
        have hD : va_D A (mW G ad m_status m_top m_bottom m_taped (nI nn.toNatClampNeg) m_token (nI fr) (nI en) m_value m_faultKind m_faultPlace m_faults m_seen m_depth m_counted m_lead m_round m_tried m_triedMany m_drawn m_ranSteps m_isTold m_marks m_at m_names m_sort m_trayMany m_trays m_tape m_text m_opened m_beside m_then m_ways m_further m_canBe m_loops m_ran m_told0) := hD
        refine lv_iconst (v := 0) hx hb dX7_begins_24 (by decide) ?_
        refine lv_istore_n (lv' := [(3, .int 0), (0, .ref (ad 0)), (1, .int (nI nn.toNatClampNeg)), (2, .int (nI most))]) hx hb dX7_begins_25 rfl hl (by decide) rfl (fun ls hl => ?_)
        have hlp_4 : ∀ (n k_4 : Nat) (s_4 : (Nat → Int32)), k_4 ≤ nn.toNatClampNeg → nn.toNatClampNeg < k_4 + n → zf (mf_begins_B26 m_tape nn) m_text k_4 = s_4 → ∀ (H : Heap) (locs : List Loc), va_P G.1 zcl (mW G ad m_status m_top m_bottom m_taped (nI nn.toNatClampNeg) m_token (nI fr) (nI en) m_value m_faultKind m_faultPlace m_faults m_seen m_depth m_counted m_lead m_round m_tried m_triedMany m_drawn m_ranSteps m_isTold m_marks m_at m_names m_sort m_trayMany m_trays m_tape s_4 m_opened m_beside m_then m_ways m_further m_canBe m_loops m_ran m_told0) H → va_D A (mW G ad m_status m_top m_bottom m_taped (nI nn.toNatClampNeg) m_token (nI fr) (nI en) m_value m_faultKind m_faultPlace m_faults m_seen m_depth m_counted m_lead m_round m_tried m_triedMany m_drawn m_ranSteps m_isTold m_marks m_at m_names m_sort m_trayMany m_trays m_tape s_4 m_opened m_beside m_then m_ways m_further m_canBe m_loops m_ran m_told0) → va_S A s.heap H locs → ∀ ls : Array Slot, lv_has ls 4 [(3, .int (nI k_4)), (0, .ref (ad 0)), (1, .int (nI nn.toNatClampNeg))] → W p l e (zR 3 0 0) s m ([.ref (ad 0), .int nn, .int (nI most)] : List Value).toArray below meth c H locs 0 0 (MQ below (zQm G ((((mf_begins m_taped zs m_token fr en m_value m_faultPlace m_faults m_seen m_tape m_text nn most).2.2.1) ≤ 900 ∧ ((mf_begins m_taped zs m_token fr en m_value m_faultPlace m_faults m_seen m_tape m_text nn most).2.2.2.2.2.1) ≤ ((mf_begins m_taped zs m_token fr en m_value m_faultPlace m_faults m_seen m_tape m_text nn most).2.2.1) ∧ ((mf_begins m_taped zs m_token fr en m_value m_faultPlace m_faults m_seen m_tape m_text nn most).2.2.2.2.1) ≤ ((mf_begins m_taped zs m_token fr en m_value m_faultPlace m_faults m_seen m_tape m_text nn most).2.2.1))) (some (.int (zb ((mf_begins m_taped zs m_token fr en m_value m_faultPlace m_faults m_seen m_tape m_text nn most).1)))) (mW G ad m_status m_top m_bottom ((mf_begins m_taped zs m_token fr en m_value m_faultPlace m_faults m_seen m_tape m_text nn most).2.1) (nI ((mf_begins m_taped zs m_token fr en m_value m_faultPlace m_faults m_seen m_tape m_text nn most).2.2.1)) ((mf_begins m_taped zs m_token fr en m_value m_faultPlace m_faults m_seen m_tape m_text nn most).2.2.2.1) (nI ((mf_begins m_taped zs m_token fr en m_value m_faultPlace m_faults m_seen m_tape m_text nn most).2.2.2.2.1)) (nI ((mf_begins m_taped zs m_token fr en m_value m_faultPlace m_faults m_seen m_tape m_text nn most).2.2.2.2.2.1)) ((mf_begins m_taped zs m_token fr en m_value m_faultPlace m_faults m_seen m_tape m_text nn most).2.2.2.2.2.2.1) m_faultKind ((mf_begins m_taped zs m_token fr en m_value m_faultPlace m_faults m_seen m_tape m_text nn most).2.2.2.2.2.2.2.1) ((mf_begins m_taped zs m_token fr en m_value m_faultPlace m_faults m_seen m_tape m_text nn most).2.2.2.2.2.2.2.2.1) ((mf_begins m_taped zs m_token fr en m_value m_faultPlace m_faults m_seen m_tape m_text nn most).2.2.2.2.2.2.2.2.2.1) m_depth m_counted m_lead m_round m_tried m_triedMany m_drawn m_ranSteps m_isTold m_marks m_at m_names m_sort m_trayMany m_trays m_tape ((mf_begins m_taped zs m_token fr en m_value m_faultPlace m_faults m_seen m_tape m_text nn most).2.2.2.2.2.2.2.2.2.2) m_opened m_beside m_then m_ways m_further m_canBe m_loops m_ran m_told0) A) ([.ref (ad 0), .int nn, .int (nI most)] : List Value).toArray s 0 0 A) (F0 m 26 ls []) := by
          intro n
          induction n with
          | zero => intro k_4 s_4 h1 h2; exact absurd h2 (by omega)
          | succ n ih_4 =>
            intro k_4 s_4 hk_4 hn_4 hst_4 H locs hP hD hS ls hl
            refine lv_iload_n hx hb dX7_begins_26 rfl (lv_at hl 0 rfl) ?_
            refine lv_iload_n hx hb dX7_begins_27 rfl (lv_at hl 2 rfl) ?_
            refine zr_ge k_4 nn.toNatClampNeg (by omega) (by omega) (tgt := 49) hx hb dX7_begins_28 (by decide) (fun c_4 => ?_) (fun c_4 => ?_)
            · have ek_4 : k_4 = nn.toNatClampNeg := Nat.le_antisymm hk_4 c_4
              have hs_4 : mf_begins_L26 m_tape nn m_text = s_4 := by rw [ek_4] at hst_4; exact hst_4
              have hl := lv_sub hl (l' := _) [1, 2] rfl
              refine lv_aload_n hx hb dX7_begins_49 rfl (lv_at hl 0 rfl) ?_
              refine lv_iconst (v := 0) hx hb dX7_begins_50 (by decide) ?_
              refine va_put (D := G.1) (ci := 7) (v := .int 0) (ty := .int) (C := RX7) (T := TX7) (N := 39) hx hb hts in_X7 tyX7 tyX7_ok nmX7 hown hK.1 hP hD hS 0 rfl rfl 10 (Nat.le_of_ble_eq_true rfl) (hts _ q1477) (fun _ h => h) rfl (tyX7_ok 10 (Nat.le_of_ble_eq_true rfl)) rfl rfl (Nat.le_of_ble_eq_true rfl) dX7_begins_51 (fun H locs hP hD hS => ?_)
              have hP : va_P G.1 zcl (mW G ad m_status m_top m_bottom 0 (nI nn.toNatClampNeg) m_token (nI fr) (nI en) m_value m_faultKind m_faultPlace m_faults m_seen m_depth m_counted m_lead m_round m_tried m_triedMany m_drawn m_ranSteps m_isTold m_marks m_at m_names m_sort m_trayMany m_trays m_tape s_4 m_opened m_beside m_then m_ways m_further m_canBe m_loops m_ran m_told0) H := hP
              have hD : va_D A (mW G ad m_status m_top m_bottom 0 (nI nn.toNatClampNeg) m_token (nI fr) (nI en) m_value m_faultKind m_faultPlace m_faults m_seen m_depth m_counted m_lead m_round m_tried m_triedMany m_drawn m_ranSteps m_isTold m_marks m_at m_names m_sort m_trayMany m_trays m_tape s_4 m_opened m_beside m_then m_ways m_further m_canBe m_loops m_ran m_told0) := hD
              refine lv_aload_n hx hb dX7_begins_54 rfl (lv_at hl 0 rfl) ?_
              refine lv_iconst (v := 0) hx hb dX7_begins_55 (by decide) ?_
              refine va_put (D := G.1) (ci := 7) (v := .int 0) (ty := .int) (C := RX7) (T := TX7) (N := 39) hx hb hts in_X7 tyX7 tyX7_ok nmX7 hown hK.1 hP hD hS 0 rfl rfl 18 (Nat.le_of_ble_eq_true rfl) (hts _ q1485) (fun _ h => h) rfl (tyX7_ok 18 (Nat.le_of_ble_eq_true rfl)) rfl rfl (Nat.le_of_ble_eq_true rfl) dX7_begins_56 (fun H locs hP hD hS => ?_)
              have hP : va_P G.1 zcl (mW G ad m_status m_top m_bottom 0 (nI nn.toNatClampNeg) m_token (nI fr) (nI en) m_value m_faultKind m_faultPlace 0 m_seen m_depth m_counted m_lead m_round m_tried m_triedMany m_drawn m_ranSteps m_isTold m_marks m_at m_names m_sort m_trayMany m_trays m_tape s_4 m_opened m_beside m_then m_ways m_further m_canBe m_loops m_ran m_told0) H := hP
              have hD : va_D A (mW G ad m_status m_top m_bottom 0 (nI nn.toNatClampNeg) m_token (nI fr) (nI en) m_value m_faultKind m_faultPlace 0 m_seen m_depth m_counted m_lead m_round m_tried m_triedMany m_drawn m_ranSteps m_isTold m_marks m_at m_names m_sort m_trayMany m_trays m_tape s_4 m_opened m_beside m_then m_ways m_further m_canBe m_loops m_ran m_told0) := hD
              refine lv_aload_n hx hb dX7_begins_59 rfl (lv_at hl 0 rfl) ?_
              refine lv_iconst (v := (-1)) hx hb dX7_begins_60 (by decide) ?_
              refine va_put (D := G.1) (ci := 7) (v := .int (-1)) (ty := .int) (C := RX7) (T := TX7) (N := 39) hx hb hts in_X7 tyX7 tyX7_ok nmX7 hown hK.1 hP hD hS 0 rfl rfl 17 (Nat.le_of_ble_eq_true rfl) (hts _ q1484) (fun _ h => h) rfl (tyX7_ok 17 (Nat.le_of_ble_eq_true rfl)) rfl rfl (Nat.le_of_ble_eq_true rfl) dX7_begins_61 (fun H locs hP hD hS => ?_)
              have hP : va_P G.1 zcl (mW G ad m_status m_top m_bottom 0 (nI nn.toNatClampNeg) m_token (nI fr) (nI en) m_value m_faultKind (-1) 0 m_seen m_depth m_counted m_lead m_round m_tried m_triedMany m_drawn m_ranSteps m_isTold m_marks m_at m_names m_sort m_trayMany m_trays m_tape s_4 m_opened m_beside m_then m_ways m_further m_canBe m_loops m_ran m_told0) H := hP
              have hD : va_D A (mW G ad m_status m_top m_bottom 0 (nI nn.toNatClampNeg) m_token (nI fr) (nI en) m_value m_faultKind (-1) 0 m_seen m_depth m_counted m_lead m_round m_tried m_triedMany m_drawn m_ranSteps m_isTold m_marks m_at m_names m_sort m_trayMany m_trays m_tape s_4 m_opened m_beside m_then m_ways m_further m_canBe m_loops m_ran m_told0) := hD
              refine lv_aload_n hx hb dX7_begins_64 rfl (lv_at hl 0 rfl) ?_
              refine lv_iconst (v := 0) hx hb dX7_begins_65 (by decide) ?_
              refine va_put (D := G.1) (ci := 7) (v := .int 0) (ty := .int) (C := RX7) (T := TX7) (N := 39) hx hb hts in_X7 tyX7 tyX7_ok nmX7 hown hK.1 hP hD hS 0 rfl rfl 14 (Nat.le_of_ble_eq_true rfl) (hts _ q1481) (fun _ h => h) rfl (tyX7_ok 14 (Nat.le_of_ble_eq_true rfl)) rfl rfl (Nat.le_of_ble_eq_true rfl) dX7_begins_66 (fun H locs hP hD hS => ?_)
              have hP : va_P G.1 zcl (mW G ad m_status m_top m_bottom 0 (nI nn.toNatClampNeg) m_token (nI fr) 0 m_value m_faultKind (-1) 0 m_seen m_depth m_counted m_lead m_round m_tried m_triedMany m_drawn m_ranSteps m_isTold m_marks m_at m_names m_sort m_trayMany m_trays m_tape s_4 m_opened m_beside m_then m_ways m_further m_canBe m_loops m_ran m_told0) H := hP
              have hD : va_D A (mW G ad m_status m_top m_bottom 0 (nI nn.toNatClampNeg) m_token (nI fr) 0 m_value m_faultKind (-1) 0 m_seen m_depth m_counted m_lead m_round m_tried m_triedMany m_drawn m_ranSteps m_isTold m_marks m_at m_names m_sort m_trayMany m_trays m_tape s_4 m_opened m_beside m_then m_ways m_further m_canBe m_loops m_ran m_told0) := hD
              refine lv_aload_n hx hb dX7_begins_69 rfl (lv_at hl 0 rfl) ?_
              refine lv_iconst (v := 0) hx hb dX7_begins_70 (by decide) ?_
              refine va_put (D := G.1) (ci := 7) (v := .int 0) (ty := .int) (C := RX7) (T := TX7) (N := 39) hx hb hts in_X7 tyX7 tyX7_ok nmX7 hown hK.1 hP hD hS 0 rfl rfl 19 (Nat.le_of_ble_eq_true rfl) (hts _ q1486) (fun _ h => h) rfl (tyX7_ok 19 (Nat.le_of_ble_eq_true rfl)) rfl rfl (Nat.le_of_ble_eq_true rfl) dX7_begins_71 (fun H locs hP hD hS => ?_)
              have hP : va_P G.1 zcl (mW G ad m_status m_top m_bottom 0 (nI nn.toNatClampNeg) m_token (nI fr) 0 m_value m_faultKind (-1) 0 0 m_depth m_counted m_lead m_round m_tried m_triedMany m_drawn m_ranSteps m_isTold m_marks m_at m_names m_sort m_trayMany m_trays m_tape s_4 m_opened m_beside m_then m_ways m_further m_canBe m_loops m_ran m_told0) H := hP
              have hD : va_D A (mW G ad m_status m_top m_bottom 0 (nI nn.toNatClampNeg) m_token (nI fr) 0 m_value m_faultKind (-1) 0 0 m_depth m_counted m_lead m_round m_tried m_triedMany m_drawn m_ranSteps m_isTold m_marks m_at m_names m_sort m_trayMany m_trays m_tape s_4 m_opened m_beside m_then m_ways m_further m_canBe m_loops m_ran m_told0) := hD
              refine lv_aload_n hx hb dX7_begins_74 rfl (lv_at hl 0 rfl) ?_
              refine zr_muV (F := mf_onward nn.toNatClampNeg 0 s_4) (ff := fun t_5 => t_5.2.2.1 ≤ nn.toNatClampNeg ∧ 0 ≤ t_5.2.2.1 ∧ t_5.2.1 ≤ nn.toNatClampNeg ∧ (t_5.1 = 0 ∨ 0 < t_5.2.2.1) ∧ t_5.2.1 ≤ t_5.2.2.1) (rr := fun t_5 => none) (w1 := fun t_5 => (mW G ad m_status m_top m_bottom 0 (nI nn.toNatClampNeg) t_5.1 (nI t_5.2.1) (nI t_5.2.2.1) t_5.2.2.2 m_faultKind (-1) 0 0 m_depth m_counted m_lead m_round m_tried m_triedMany m_drawn m_ranSteps m_isTold m_marks m_at m_names m_sort m_trayMany m_trays m_tape s_4 m_opened m_beside m_then m_ways m_further m_canBe m_loops m_ran m_told0)) ⟨hx, hb, hml, hown, hts⟩ (mt_mf_onward l G ad m_status m_top m_bottom 0 nn.toNatClampNeg m_token fr 0 m_value m_faultKind (-1) 0 0 m_depth m_counted m_lead m_round m_tried m_triedMany m_drawn m_ranSteps m_isTold m_marks m_at m_names m_sort m_trayMany m_trays m_tape s_4 m_opened m_beside m_then m_ways m_further m_canBe m_loops m_ran m_told0 (by first | assumption | exact hzs | omega) (by first | assumption | exact hen | omega) H.size) (cwV 0 hts (lw_V q1648 q1650 qs64 q144 q1651) rfl rfl rfl hd_X7_onward ⟨(Nat.le_of_ble_eq_true rfl), (Nat.le_of_ble_eq_true rfl)⟩) hP hD hS hA hK hE 0 7 rfl rfl rfl hl.1 rfl (Nat.le_of_ble_eq_true rfl) dX7_begins_75 ⟨Nat.le_refl _, Nat.le_refl _⟩ (fun t_5 ht_5 hft_5 H locs hP hD hS _ => ?_)
              refine W.eq (g2 := F0 m 78 ls []) rfl ?_
              obtain ⟨ok_m_end_t_5, hle_t_5, hfz_t_5, htk_t_5, hfe_t_5⟩ := hft_5
              refine lv_iconst (v := 1) hx hb dX7_begins_78 (by decide) ?_
              have e_ : mf_begins m_taped zs m_token fr en m_value m_faultPlace m_faults m_seen m_tape m_text nn most = (true, 0, nn.toNatClampNeg, t_5.1, t_5.2.1, t_5.2.2.1, t_5.2.2.2, (-1), 0, 0, s_4) := by rw [mf_begins, if_neg c_1, if_neg c_2, if_pos c_3, zlet_eq hs_4, zlet_eq ht_5]
              exact zr_mz hx hb hr hlocks hP hD hS dX7_begins_79 rfl (by rw [e_]; rfl) (by rw [e_]) (by rw [e_]; exact (by first | exact ⟨by omega, by omega, by omega⟩ | exact ⟨by dsimp only; omega, by dsimp only; omega, by dsimp only; omega⟩))
            · have hlt_4 : k_4 < nn.toNatClampNeg := Nat.lt_of_not_le c_4
              refine lv_aload_n hx hb dX7_begins_31 rfl (lv_at hl 1 rfl) ?_
              refine va_get (D := G.1) (ci := 7) (v := .ref (ad 7)) (C := RX7) (T := TX7) (N := 39) hx hb hts in_X7 hown hK.1 hP 0 rfl rfl 9 (Nat.le_of_ble_eq_true rfl) (hts _ q1476) (fun _ h => h) rfl dX7_begins_32 ?_
              refine lv_iload_n hx hb dX7_begins_35 rfl (lv_at hl 0 rfl) ?_
              refine lv_aload_n hx hb dX7_begins_36 rfl (lv_at hl 1 rfl) ?_
              refine va_get (D := G.1) (ci := 7) (v := .ref (ad 6)) (C := RX7) (T := TX7) (N := 39) hx hb hts in_X7 hown hK.1 hP 0 rfl rfl 8 (Nat.le_of_ble_eq_true rfl) (hts _ q1475) (fun _ h => h) rfl dX7_begins_37 ?_
              refine lv_iload_n hx hb dX7_begins_40 rfl (lv_at hl 0 rfl) ?_
              refine zr_bald k_4 (v := m_tape k_4) hx hb hK hP 6 rfl rfl (Nat.le_of_ble_eq_true rfl) rfl (by omega) rfl dX7_begins_41 ?_
              refine zr_bast k_4 (ws' := (mW G ad m_status m_top m_bottom m_taped (nI nn.toNatClampNeg) m_token (nI fr) (nI en) m_value m_faultKind m_faultPlace m_faults m_seen m_depth m_counted m_lead m_round m_tried m_triedMany m_drawn m_ranSteps m_isTold m_marks m_at m_names m_sort m_trayMany m_trays m_tape (upd s_4 k_4 (vp_nar .byte (m_tape k_4))) m_opened m_beside m_then m_ways m_further m_canBe m_loops m_ran m_told0)) hx hb hK hP hD hS 7 rfl rfl (Nat.le_of_ble_eq_true rfl) rfl (by omega) rfl dX7_begins_42 (fun H locs hP hD hS => ?_)
              refine lv_iinc (v := nI (k_4 + 1)) (lv' := [(3, .int (nI (k_4 + 1))), (0, .ref (ad 0)), (1, .int (nI nn.toNatClampNeg))]) hx hb dX7_begins_43 hl (k := 0) rfl (nI_add k_4 1) (by decide) rfl (fun ls hl => ?_)
              refine lv_goto (tgt := 26) hx hb dX7_begins_46 (by decide) ?_
              exact ih_4 (k_4 + 1) (upd s_4 k_4 (vp_nar .byte (m_tape k_4))) hlt_4 (by omega) (zf_s hst_4 (by rw [mf_begins_B26])) H locs hP hD hS ls (lv_sub hl [0, 1, 2] rfl)
        exact hlp_4 (nn.toNatClampNeg + 1) 0 m_text (Nat.zero_le _) (by omega) rfl H locs hP hD hS ls (lv_sub hl [0, 1, 2] rfl)
      · refine lv_iconst (v := 0) hx hb dX7_begins_17 (by decide) ?_
        have e_ : mf_begins m_taped zs m_token fr en m_value m_faultPlace m_faults m_seen m_tape m_text nn most = (false, m_taped, zs, m_token, fr, en, m_value, m_faultPlace, m_faults, m_seen, m_text) := by rw [mf_begins, if_neg c_1, if_neg c_2, if_neg c_3]
        exact zr_mz hx hb hr hlocks hP hD hS dX7_begins_18 rfl (by rw [e_]; rfl) (by rw [e_]) (by rw [e_]; exact (by first | exact ⟨by omega, by omega, by omega⟩ | exact ⟨by dsimp only; omega, by dsimp only; omega, by dsimp only; omega⟩))
