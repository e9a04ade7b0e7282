def rf_next_B8 (rz : Nat) (rb : Nat) (xtape : Nat → Int32) (s_1 : Nat) : (Nat) ⊕ (Nat) :=
  (if rz ≤ s_1 then
    .inr s_1
  else
    (if (xtape s_1) = 10 then
      .inl (s_1 + 1)
    else
      (if (xtape s_1) = 32 then
        .inl (s_1 + 1)
      else
        .inr s_1)))
def rf_next_L8 (rz : Nat) (rb : Nat) (xtape : Nat → Int32) (s_1 : Nat) : Nat := zw (rf_next_B8 rz rb xtape) (s_1) ((rz - s_1) + 1) s_1
def rf_next_B107 (rz : Nat) (xtape : Nat → Int32) (t_1 : Nat) (s_16 : Nat) : (Nat) ⊕ (Nat) :=
  (if (rf_isLetter rz xtape s_16) = true then
    .inl (s_16 + 1)
  else
    .inr s_16)
def rf_next_L107 (rz : Nat) (xtape : Nat → Int32) (t_1 : Nat) (s_16 : Nat) : Nat := zw (rf_next_B107 rz xtape t_1) (s_16) ((rz - s_16) + 1) s_16
def rf_next_B147 (rz : Nat) (xtape : Nat → Int32) (t_1 : Nat) (s_12 : Nat × Int32) : (Nat × Int32) ⊕ (Nat × Int32) :=
  (if (rf_isDigit rz xtape s_12.1) = true then
    (if 4 ≤ (s_12.1 - t_1) then
      .inl (s_12.1 + 1, s_12.2)
    else
      .inl (s_12.1 + 1, ((10 * s_12.2) + (xtape s_12.1)) - 48))
  else
    .inr (s_12.1, s_12.2))
def rf_next_L147 (rz : Nat) (xtape : Nat → Int32) (t_1 : Nat) (s_12 : Nat × Int32) : Nat × Int32 := zw (rf_next_B147 rz xtape t_1) (s_12) ((rz - s_12.1) + 1) s_12
def rf_next (rz : Nat) (rb : Nat) (r_number : Int32) (xtape : Nat → Int32) : Nat × Nat × Int32 × Int32 :=
  zlet (rf_next_L8 rz rb xtape rb) (fun t_1 =>
  (if t_1 < rz then
    (if (rf_isLetter rz xtape t_1) = true then
      zlet (rf_next_L107 rz xtape t_1 t_1) (fun t_16 =>
      (t_1, t_16, 1, r_number))
    else
      (if (rf_isDigit rz xtape t_1) = true then
        zlet (rf_next_L147 rz xtape t_1 (t_1, 0)) (fun t_12 =>
        (if (t_12.1 - t_1) ≤ 4 then
          (t_1, t_12.1, 2, t_12.2)
        else
          (t_1, t_12.1, 4, t_12.2)))
      else
        (if (xtape t_1) = 59 then
          (t_1, t_1 + 1, 3, r_number)
        else
          (if (xtape t_1) = 60 then
            (t_1, t_1 + 1, 3, r_number)
          else
            (if (xtape t_1) = 62 then
              (t_1, t_1 + 1, 3, r_number)
            else
              (if (xtape t_1) = 61 then
                (t_1, t_1 + 1, 3, r_number)
              else
                (t_1, t_1 + 1, 4, r_number)))))))
  else
    (t_1, t_1, 0, r_number)))
theorem hd_X8_next : yX8_next.cls = RX8 ∧ yX8_next.cls ≠ "java/lang/invoke/MethodHandle" ∧ yX8_next.cls ≠ "java/lang/invoke/VarHandle" ∧ (parseMethodDescriptor yX8_next.desc).map (fun d => d.parameters.length) = some 0 := by decide +kernel
set_option maxHeartbeats 4000000 in
set_option maxRecDepth 100000 in
theorem mt_rf_next (l : Launch) (G : zG) (rA : Nat) (rz : Nat) (ra : Nat) (rb : Nat) (r_sort : Int32) (r_number : Int32) (r_steps : Int32) (r_picture : Int32) (xA : Nat) (xa_trays : Nat) (xa_tape : Nat) (x_taped : Int32) (x_faultKind : Int32) (x_faultAt : Int32) (xa_bad : Nat) (xa_refused : Nat) (x_status : Int32) (x_above : Int64) (x_under : Int64) (nA : Nat) (xa_marks : Nat) (x_markMany : Int32) (xa_pictures : Nat) (x_lead : Int32) (x_round : Int32) (xa_ways : Nat) (x_bestSet : Int32) (x_bestMany : Int32) (x_left : Int32) (xa_aside : Nat) (xa_last : Nat) (x_hasLived : Bool) (xtape : Nat → Int32) (b_v0 : Value) (b_v1 : Value) (b_v2 : Value) (b_v3 : Value) (b_v4 : Value) (b_v5 : Value) (b_kind : Int32) (b_place : Int32) (hrz : rz ≤ 900) (hab : ra ≤ rb) (hbz : rb ≤ rz) (hso : r_sort = 0 ∨ ra < rb) (sz : Nat) : Met l yX8_next (ws_ yX8_next cX8_next 1 none) (zR 2 0 0) (zPm G sz [.ref rA] (rW_ G rA (nI rz) (nI ra) (nI rb) r_sort r_number r_steps r_picture xA xa_trays xa_tape x_taped x_faultKind x_faultAt xa_bad xa_refused x_status x_above x_under nA xa_marks x_markMany xa_pictures x_lead x_round xa_ways x_bestSet x_bestMany x_left xa_aside xa_last x_hasLived xtape b_v0 b_v1 b_v2 b_v3 b_v4 b_v5 b_kind b_place)) (zQm G ((((rf_next rz rb r_number xtape).1) ≤ ((rf_next rz rb r_number xtape).2.1) ∧ ((rf_next rz rb r_number xtape).2.1) ≤ rz ∧ rb ≤ ((rf_next rz rb r_number xtape).1)) ∧ (((rf_next rz rb r_number xtape).2.2.1) = 0 ∨ ((rf_next rz rb r_number xtape).1) < ((rf_next rz rb r_number xtape).2.1)) ∧ (((rf_next rz rb r_number xtape).2.2.1) = 0 ∨ rb < ((rf_next rz rb r_number xtape).2.1))) none (rW_ G rA (nI rz) (nI ((rf_next rz rb r_number xtape).1)) (nI ((rf_next rz rb r_number xtape).2.1)) ((rf_next rz rb r_number xtape).2.2.1) ((rf_next rz rb r_number xtape).2.2.2) r_steps r_picture xA xa_trays xa_tape x_taped x_faultKind x_faultAt xa_bad xa_refused x_status x_above x_under nA xa_marks x_markMany xa_pictures x_lead x_round xa_ways x_bestSet x_bestMany x_left xa_aside xa_last x_hasLived xtape b_v0 b_v1 b_v2 b_v3 b_v4 b_v5 b_kind b_place) (va_A (rW_ G rA (nI rz) (nI ra) (nI rb) r_sort r_number r_steps r_picture xA xa_trays xa_tape x_taped x_faultKind x_faultAt xa_bad xa_refused x_status x_above x_under nA xa_marks x_markMany xa_pictures x_lead x_round xa_ways x_bestSet x_bestMany x_left xa_aside xa_last x_hasLived xtape b_v0 b_v1 b_v2 b_v3 b_v4 b_v5 b_kind b_place) sz)) 0 0 (va_A (rW_ G rA (nI rz) (nI ra) (nI rb) r_sort r_number r_steps r_picture xA xa_trays xa_tape x_taped x_faultKind x_faultAt xa_bad xa_refused x_status x_above x_under nA xa_marks x_markMany xa_pictures x_lead x_round xa_ways x_bestSet x_bestMany x_left xa_aside xa_last x_hasLived xtape b_v0 b_v1 b_v2 b_v3 b_v4 b_v5 b_kind b_place) sz) := by
  refine zr_entM (by decide) (Nat.le_of_ble_eq_true rfl) ?_
  intro p e s m below meth c ⟨hx, hb, hr, hml, hown, hts, hlocks, hnm⟩ ls hl hP hK A hE hA hD hS
  have hown : s.vm.findClass RX8 = some m.cls := hown
  have hl : lv_has ls 1 [(0, .ref rA)] := hl
  obtain ⟨H, hH⟩ : ∃ H, H = s.heap := ⟨_, rfl⟩
  obtain ⟨locs, hlo⟩ : ∃ L : List Loc, L = [] := ⟨_, rfl⟩
  rw [← hH] at hP
  have hS : va_S A s.heap H locs := by rw [hH, hlo]; exact va_S.rf
  have hgo : W p l e (zR 2 0 0) s m ([.ref rA] : List Value).toArray below meth c H locs 0 0 (MQ below (zQm G ((((rf_next rz rb r_number xtape).1) ≤ ((rf_next rz rb r_number xtape).2.1) ∧ ((rf_next rz rb r_number xtape).2.1) ≤ rz ∧ rb ≤ ((rf_next rz rb r_number xtape).1)) ∧ (((rf_next rz rb r_number xtape).2.2.1) = 0 ∨ ((rf_next rz rb r_number xtape).1) < ((rf_next rz rb r_number xtape).2.1)) ∧ (((rf_next rz rb r_number xtape).2.2.1) = 0 ∨ rb < ((rf_next rz rb r_number xtape).2.1))) none (rW_ G rA (nI rz) (nI ((rf_next rz rb r_number xtape).1)) (nI ((rf_next rz rb r_number xtape).2.1)) ((rf_next rz rb r_number xtape).2.2.1) ((rf_next rz rb r_number xtape).2.2.2) r_steps r_picture xA xa_trays xa_tape x_taped x_faultKind x_faultAt xa_bad xa_refused x_status x_above x_under nA xa_marks x_markMany xa_pictures x_lead x_round xa_ways x_bestSet x_bestMany x_left xa_aside xa_last x_hasLived xtape b_v0 b_v1 b_v2 b_v3 b_v4 b_v5 b_kind b_place) A) ([.ref rA] : List Value).toArray s 0 0 A) (F0 m 0 ls []) := ?_
  · rw [hH, hlo] at hgo; exact hgo
  clear hH hlo
  refine lv_aload_n hx hb dX8_next_0 rfl (lv_at hl 0 rfl) ?_
  refine lv_aload_n hx hb dX8_next_1 rfl (lv_at hl 0 rfl) ?_
  refine va_get (D := G.1) (ci := 8) (v := .int (nI rb)) (C := RX8) (T := TX8) (N := 8) hx hb hts in_X8 hown hK.1 hP 0 rfl rfl 2 (Nat.le_of_ble_eq_true rfl) (hts _ q651) (fun _ h => h) rfl dX8_next_2 ?_
  refine va_put (D := G.1) (ci := 8) (v := .int (nI rb)) (ty := .int) (C := RX8) (T := TX8) (N := 8) hx hb hts in_X8 tyX8 tyX8_ok nmX8 hown hK.1 hP hD hS 0 rfl rfl 1 (Nat.le_of_ble_eq_true rfl) (hts _ q650) (fun _ h => h) rfl (tyX8_ok 1 (Nat.le_of_ble_eq_true rfl)) rfl rfl (Nat.le_of_ble_eq_true rfl) dX8_next_5 (fun H locs hP hD hS => ?_)
  have hP : va_P G.1 zcl (rW_ G rA (nI rz) (nI rb) (nI rb) r_sort r_number r_steps r_picture xA xa_trays xa_tape x_taped x_faultKind x_faultAt xa_bad xa_refused x_status x_above x_under nA xa_marks x_markMany xa_pictures x_lead x_round xa_ways x_bestSet x_bestMany x_left xa_aside xa_last x_hasLived xtape b_v0 b_v1 b_v2 b_v3 b_v4 b_v5 b_kind b_place) H := hP
  have hD : va_D A (rW_ G rA (nI rz) (nI rb) (nI rb) r_sort r_number r_steps r_picture xA xa_trays xa_tape x_taped x_faultKind x_faultAt xa_bad xa_refused x_status x_above x_under nA xa_marks x_markMany xa_pictures x_lead x_round xa_ways x_bestSet x_bestMany x_left xa_aside xa_last x_hasLived xtape b_v0 b_v1 b_v2 b_v3 b_v4 b_v5 b_kind b_place) := hD
  have hx_1 : ∀ t_1 : Nat, rf_next_L8 rz rb xtape rb = t_1 → rb ≤ t_1 ∧ t_1 ≤ rz → ∀ (H : Heap) (locs : List Loc), va_P G.1 zcl (rW_ G rA (nI rz) (nI t_1) (nI rb) r_sort r_number r_steps r_picture xA xa_trays xa_tape x_taped x_faultKind x_faultAt xa_bad xa_refused x_status x_above x_under nA xa_marks x_markMany xa_pictures x_lead x_round xa_ways x_bestSet x_bestMany x_left xa_aside xa_last x_hasLived xtape b_v0 b_v1 b_v2 b_v3 b_v4 b_v5 b_kind b_place) H → va_D A (rW_ G rA (nI rz) (nI t_1) (nI rb) r_sort r_number r_steps r_picture xA xa_trays xa_tape x_taped x_faultKind x_faultAt xa_bad xa_refused x_status x_above x_under nA xa_marks x_markMany xa_pictures x_lead x_round xa_ways x_bestSet x_bestMany x_left xa_aside xa_last x_hasLived xtape b_v0 b_v1 b_v2 b_v3 b_v4 b_v5 b_kind b_place) → va_S A s.heap H locs → ∀ ls : Array Slot, lv_has ls 1 [(0, .ref rA)] → W p l e (zR 2 0 0) s m ([.ref rA] : List Value).toArray below meth c H locs 0 0 (MQ below (zQm G ((((rf_next rz rb r_number xtape).1) ≤ ((rf_next rz rb r_number xtape).2.1) ∧ ((rf_next rz rb r_number xtape).2.1) ≤ rz ∧ rb ≤ ((rf_next rz rb r_number xtape).1)) ∧ (((rf_next rz rb r_number xtape).2.2.1) = 0 ∨ ((rf_next rz rb r_number xtape).1) < ((rf_next rz rb r_number xtape).2.1)) ∧ (((rf_next rz rb r_number xtape).2.2.1) = 0 ∨ rb < ((rf_next rz rb r_number xtape).2.1))) none (rW_ G rA (nI rz) (nI ((rf_next rz rb r_number xtape).1)) (nI ((rf_next rz rb r_number xtape).2.1)) ((rf_next rz rb r_number xtape).2.2.1) ((rf_next rz rb r_number xtape).2.2.2) r_steps r_picture xA xa_trays xa_tape x_taped x_faultKind x_faultAt xa_bad xa_refused x_status x_above x_under nA xa_marks x_markMany xa_pictures x_lead x_round xa_ways x_bestSet x_bestMany x_left xa_aside xa_last x_hasLived xtape b_v0 b_v1 b_v2 b_v3 b_v4 b_v5 b_kind b_place) A) ([.ref rA] : List Value).toArray s 0 0 A) (F0 m 66 ls []) := by
    intro t_1 ht_1 hx0 H locs hP hD hS ls hl
    refine lv_aload_n hx hb dX8_next_66 rfl (lv_at hl 0 rfl) ?_
    refine lv_aload_n hx hb dX8_next_67 rfl (lv_at hl 0 rfl) ?_
    refine va_get (D := G.1) (ci := 8) (v := .int (nI t_1)) (C := RX8) (T := TX8) (N := 8) hx hb hts in_X8 hown hK.1 hP 0 rfl rfl 1 (Nat.le_of_ble_eq_true rfl) (hts _ q650) (fun _ h => h) rfl dX8_next_68 ?_
    refine va_put (D := G.1) (ci := 8) (v := .int (nI t_1)) (ty := .int) (C := RX8) (T := TX8) (N := 8) hx hb hts in_X8 tyX8 tyX8_ok nmX8 hown hK.1 hP hD hS 0 rfl rfl 2 (Nat.le_of_ble_eq_true rfl) (hts _ q651) (fun _ h => h) rfl (tyX8_ok 2 (Nat.le_of_ble_eq_true rfl)) rfl rfl (Nat.le_of_ble_eq_true rfl) dX8_next_71 (fun H locs hP hD hS => ?_)
    have hP : va_P G.1 zcl (rW_ G rA (nI rz) (nI t_1) (nI t_1) r_sort r_number r_steps r_picture xA xa_trays xa_tape x_taped x_faultKind x_faultAt xa_bad xa_refused x_status x_above x_under nA xa_marks x_markMany xa_pictures x_lead x_round xa_ways x_bestSet x_bestMany x_left xa_aside xa_last x_hasLived xtape b_v0 b_v1 b_v2 b_v3 b_v4 b_v5 b_kind b_place) H := hP
    have hD : va_D A (rW_ G rA (nI rz) (nI t_1) (nI t_1) r_sort r_number r_steps r_picture xA xa_trays xa_tape x_taped x_faultKind x_faultAt xa_bad xa_refused x_status x_above x_under nA xa_marks x_markMany xa_pictures x_lead x_round xa_ways x_bestSet x_bestMany x_left xa_aside xa_last x_hasLived xtape b_v0 b_v1 b_v2 b_v3 b_v4 b_v5 b_kind b_place) := hD
    refine lv_aload_n hx hb dX8_next_74 rfl (lv_at hl 0 rfl) ?_
    refine lv_iconst (v := 0) hx hb dX8_next_75 (by decide) ?_
    refine va_put (D := G.1) (ci := 8) (v := .int 0) (ty := .int) (C := RX8) (T := TX8) (N := 8) hx hb hts in_X8 tyX8 tyX8_ok nmX8 hown hK.1 hP hD hS 0 rfl rfl 3 (Nat.le_of_ble_eq_true rfl) (hts _ q652) (fun _ h => h) rfl (tyX8_ok 3 (Nat.le_of_ble_eq_true rfl)) rfl rfl (Nat.le_of_ble_eq_true rfl) dX8_next_76 (fun H locs hP hD hS => ?_)
    have hP : va_P G.1 zcl (rW_ G rA (nI rz) (nI t_1) (nI t_1) 0 r_number r_steps r_picture xA xa_trays xa_tape x_taped x_faultKind x_faultAt xa_bad xa_refused x_status x_above x_under nA xa_marks x_markMany xa_pictures x_lead x_round xa_ways x_bestSet x_bestMany x_left xa_aside xa_last x_hasLived xtape b_v0 b_v1 b_v2 b_v3 b_v4 b_v5 b_kind b_place) H := hP
    have hD : va_D A (rW_ G rA (nI rz) (nI t_1) (nI t_1) 0 r_number r_steps r_picture xA xa_trays xa_tape x_taped x_faultKind x_faultAt xa_bad xa_refused x_status x_above x_under nA xa_marks x_markMany xa_pictures x_lead x_round xa_ways x_bestSet x_bestMany x_left xa_aside xa_last x_hasLived xtape b_v0 b_v1 b_v2 b_v3 b_v4 b_v5 b_kind b_place) := hD
    refine lv_aload_n hx hb dX8_next_79 rfl (lv_at hl 0 rfl) ?_
    refine va_get (D := G.1) (ci := 8) (v := .int (nI t_1)) (C := RX8) (T := TX8) (N := 8) hx hb hts in_X8 hown hK.1 hP 0 rfl rfl 1 (Nat.le_of_ble_eq_true rfl) (hts _ q650) (fun _ h => h) rfl dX8_next_80 ?_
    refine lv_aload_n hx hb dX8_next_83 rfl (lv_at hl 0 rfl) ?_
    refine va_get (D := G.1) (ci := 8) (v := .int (nI rz)) (C := RX8) (T := TX8) (N := 8) hx hb hts in_X8 hown hK.1 hP 0 rfl rfl 0 (Nat.le_of_ble_eq_true rfl) (hts _ q649) (fun _ h => h) rfl dX8_next_84 ?_
    refine zr_lt t_1 rz (by omega) (by omega) (tgt := 91) hx hb dX8_next_87 (by decide) (fun c_5 => ?_) (fun c_5 => ?_)
    · refine lv_aload_n hx hb dX8_next_91 rfl (lv_at hl 0 rfl) ?_
      refine lv_aload_n hx hb dX8_next_92 rfl (lv_at hl 0 rfl) ?_
      refine va_get (D := G.1) (ci := 8) (v := .int (nI t_1)) (C := RX8) (T := TX8) (N := 8) hx hb hts in_X8 hown hK.1 hP 0 rfl rfl 1 (Nat.le_of_ble_eq_true rfl) (hts _ q650) (fun _ h => h) rfl dX8_next_93 ?_
      refine zr_obV ⟨hx, hb, hml, hown, hts⟩ (mt_rf_isLetter l G rA rz t_1 t_1 0 r_number r_steps r_picture xA xa_trays xa_tape x_taped x_faultKind x_faultAt xa_bad xa_refused x_status x_above x_under nA xa_marks x_markMany xa_pictures x_lead x_round xa_ways x_bestSet x_bestMany x_left xa_aside xa_last x_hasLived xtape b_v0 b_v1 b_v2 b_v3 b_v4 b_v5 b_kind b_place t_1 hrz (by omega)) (cwV 1 hts (lw_V q641 q643 qs8 q151 q644) rfl rfl rfl hd_X8_isLetter ⟨(Nat.le_of_ble_eq_true rfl), (Nat.le_of_ble_eq_true rfl)⟩) hP hK (zE_o hE hS) 0 8 rfl rfl rfl hl.1 rfl (Nat.le_of_ble_eq_true rfl) dX8_next_96 ⟨Nat.le_refl _, Nat.le_refl _⟩ ?_
      refine zr_eqB (rf_isLetter rz xtape t_1) (tgt := 131) hx hb dX8_next_99 (by decide) (fun c_6 => ?_) (fun c_6 => ?_)
      · refine lv_aload_n hx hb dX8_next_131 rfl (lv_at hl 0 rfl) ?_
        refine lv_aload_n hx hb dX8_next_132 rfl (lv_at hl 0 rfl) ?_
        refine va_get (D := G.1) (ci := 8) (v := .int (nI t_1)) (C := RX8) (T := TX8) (N := 8) hx hb hts in_X8 hown hK.1 hP 0 rfl rfl 1 (Nat.le_of_ble_eq_true rfl) (hts _ q650) (fun _ h => h) rfl dX8_next_133 ?_
        refine zr_obV ⟨hx, hb, hml, hown, hts⟩ (mt_rf_isDigit l G rA rz t_1 t_1 0 r_number r_steps r_picture xA xa_trays xa_tape x_taped x_faultKind x_faultAt xa_bad xa_refused x_status x_above x_under nA xa_marks x_markMany xa_pictures x_lead x_round xa_ways x_bestSet x_bestMany x_left xa_aside xa_last x_hasLived xtape b_v0 b_v1 b_v2 b_v3 b_v4 b_v5 b_kind b_place t_1 hrz (by omega)) (cwV 1 hts (lw_V q645 q647 qs9 q151 q648) rfl rfl rfl hd_X8_isDigit ⟨(Nat.le_of_ble_eq_true rfl), (Nat.le_of_ble_eq_true rfl)⟩) hP hK (zE_o hE hS) 0 8 rfl rfl rfl hl.1 rfl (Nat.le_of_ble_eq_true rfl) dX8_next_136 ⟨Nat.le_refl _, Nat.le_refl _⟩ ?_
        refine zr_eqB (rf_isDigit rz xtape t_1) (tgt := 236) hx hb dX8_next_139 (by decide) (fun c_7 => ?_) (fun c_7 => ?_)
        · refine lv_aload_n hx hb dX8_next_236 rfl (lv_at hl 0 rfl) ?_
          refine lv_aload_n hx hb dX8_next_237 rfl (lv_at hl 0 rfl) ?_
          refine va_get (D := G.1) (ci := 8) (v := .int (nI t_1)) (C := RX8) (T := TX8) (N := 8) hx hb hts in_X8 hown hK.1 hP 0 rfl rfl 1 (Nat.le_of_ble_eq_true rfl) (hts _ q650) (fun _ h => h) rfl dX8_next_238 ?_
          refine lv_iconst (v := 1) hx hb dX8_next_241 (by decide) ?_
          refine zr_iaddN t_1 1 hx hb dX8_next_242 ?_
          refine va_put (D := G.1) (ci := 8) (v := .int (nI (t_1 + 1))) (ty := .int) (C := RX8) (T := TX8) (N := 8) hx hb hts in_X8 tyX8 tyX8_ok nmX8 hown hK.1 hP hD hS 0 rfl rfl 2 (Nat.le_of_ble_eq_true rfl) (hts _ q651) (fun _ h => h) rfl (tyX8_ok 2 (Nat.le_of_ble_eq_true rfl)) rfl rfl (Nat.le_of_ble_eq_true rfl) dX8_next_243 (fun H locs hP hD hS => ?_)
          have hP : va_P G.1 zcl (rW_ G rA (nI rz) (nI t_1) (nI (t_1 + 1)) 0 r_number r_steps r_picture xA xa_trays xa_tape x_taped x_faultKind x_faultAt xa_bad xa_refused x_status x_above x_under nA xa_marks x_markMany xa_pictures x_lead x_round xa_ways x_bestSet x_bestMany x_left xa_aside xa_last x_hasLived xtape b_v0 b_v1 b_v2 b_v3 b_v4 b_v5 b_kind b_place) H := hP
          have hD : va_D A (rW_ G rA (nI rz) (nI t_1) (nI (t_1 + 1)) 0 r_number r_steps r_picture xA xa_trays xa_tape x_taped x_faultKind x_faultAt xa_bad xa_refused x_status x_above x_under nA xa_marks x_markMany xa_pictures x_lead x_round xa_ways x_bestSet x_bestMany x_left xa_aside xa_last x_hasLived xtape b_v0 b_v1 b_v2 b_v3 b_v4 b_v5 b_kind b_place) := hD
          refine lv_aload_n hx hb dX8_next_246 rfl (lv_at hl 0 rfl) ?_
          refine lv_aload_n hx hb dX8_next_247 rfl (lv_at hl 0 rfl) ?_
          refine va_get (D := G.1) (ci := 8) (v := .ref xA) (C := RX8) (T := TX8) (N := 8) hx hb hts in_X8 hown hK.1 hP 0 rfl rfl 7 (Nat.le_of_ble_eq_true rfl) (hts _ q658) (fun _ h => h) rfl dX8_next_248 ?_
          refine va_getN (D := G.1) (ci := 0) (v := .ref xa_tape) (C := RX0) (T := TX0) (N := 23) hx hb hts in_X0 hown hK.1 hP 1 rfl rfl 1 (Nat.le_of_ble_eq_true rfl) ((hK.2.1.1 _ (List.mem_of_getElem? (i := 52) rfl)).use rfl) (fun _ h => h) rfl dX8_next_251 ?_
          refine lv_aload_n hx hb dX8_next_254 rfl (lv_at hl 0 rfl) ?_
          refine va_get (D := G.1) (ci := 8) (v := .int (nI t_1)) (C := RX8) (T := TX8) (N := 8) hx hb hts in_X8 hown hK.1 hP 0 rfl rfl 1 (Nat.le_of_ble_eq_true rfl) (hts _ q650) (fun _ h => h) rfl dX8_next_255 ?_
          refine zr_bald t_1 (v := xtape t_1) hx hb hK hP 2 rfl rfl (Nat.le_of_ble_eq_true rfl) rfl (by omega) rfl dX8_next_258 ?_
          refine lv_bipush (v := 59) hx hb dX8_next_259 (by decide) ?_
          refine lv_icmp_eq (tgt := 315) hx hb dX8_next_261 (by decide) (fun c_8 => ?_) (fun c_8 => ?_)
          · refine lv_iconst (v := 3) hx hb dX8_next_315 (by decide) ?_
            refine lv_goto (tgt := 320) hx hb dX8_next_316 (by decide) ?_
            refine va_put (D := G.1) (ci := 8) (v := .int 3) (ty := .int) (C := RX8) (T := TX8) (N := 8) hx hb hts in_X8 tyX8 tyX8_ok nmX8 hown hK.1 hP hD hS 0 rfl rfl 3 (Nat.le_of_ble_eq_true rfl) (hts _ q652) (fun _ h => h) rfl (tyX8_ok 3 (Nat.le_of_ble_eq_true rfl)) rfl rfl (Nat.le_of_ble_eq_true rfl) dX8_next_320 (fun H locs hP hD hS => ?_)
            have hP : va_P G.1 zcl (rW_ G rA (nI rz) (nI t_1) (nI (t_1 + 1)) 3 r_number r_steps r_picture xA xa_trays xa_tape x_taped x_faultKind x_faultAt xa_bad xa_refused x_status x_above x_under nA xa_marks x_markMany xa_pictures x_lead x_round xa_ways x_bestSet x_bestMany x_left xa_aside xa_last x_hasLived xtape b_v0 b_v1 b_v2 b_v3 b_v4 b_v5 b_kind b_place) H := hP
            have hD : va_D A (rW_ G rA (nI rz) (nI t_1) (nI (t_1 + 1)) 3 r_number r_steps r_picture xA xa_trays xa_tape x_taped x_faultKind x_faultAt xa_bad xa_refused x_status x_above x_under nA xa_marks x_markMany xa_pictures x_lead x_round xa_ways x_bestSet x_bestMany x_left xa_aside xa_last x_hasLived xtape b_v0 b_v1 b_v2 b_v3 b_v4 b_v5 b_kind b_place) := hD
            have e_ : rf_next rz rb r_number xtape = (t_1, t_1 + 1, 3, r_number) := by rw [rf_next, zlet_eq ht_1, if_pos c_5, if_neg c_6, if_neg c_7, if_pos c_8]
            exact zr_mv hx hb hr hlocks hP hD hS dX8_next_323 rfl (by rw [e_]) (by rw [e_]; exact ⟨(by first | exact ⟨by omega, by omega, by omega⟩ | exact ⟨by dsimp only; omega, by dsimp only; omega, by dsimp only; omega⟩), (by first | exact Or.inl rfl | exact Or.inr (by omega) | exact Or.inr (by dsimp only; omega)), (by first | exact Or.inl rfl | exact Or.inr (by omega) | exact Or.inr (by dsimp only; omega))⟩)
          · refine lv_aload_n hx hb dX8_next_264 rfl (lv_at hl 0 rfl) ?_
            refine va_get (D := G.1) (ci := 8) (v := .ref xA) (C := RX8) (T := TX8) (N := 8) hx hb hts in_X8 hown hK.1 hP 0 rfl rfl 7 (Nat.le_of_ble_eq_true rfl) (hts _ q658) (fun _ h => h) rfl dX8_next_265 ?_
            refine va_getN (D := G.1) (ci := 0) (v := .ref xa_tape) (C := RX0) (T := TX0) (N := 23) hx hb hts in_X0 hown hK.1 hP 1 rfl rfl 1 (Nat.le_of_ble_eq_true rfl) ((hK.2.1.1 _ (List.mem_of_getElem? (i := 52) rfl)).use rfl) (fun _ h => h) rfl dX8_next_268 ?_
            refine lv_aload_n hx hb dX8_next_271 rfl (lv_at hl 0 rfl) ?_
            refine va_get (D := G.1) (ci := 8) (v := .int (nI t_1)) (C := RX8) (T := TX8) (N := 8) hx hb hts in_X8 hown hK.1 hP 0 rfl rfl 1 (Nat.le_of_ble_eq_true rfl) (hts _ q650) (fun _ h => h) rfl dX8_next_272 ?_
            refine zr_bald t_1 (v := xtape t_1) hx hb hK hP 2 rfl rfl (Nat.le_of_ble_eq_true rfl) rfl (by omega) rfl dX8_next_275 ?_
            refine lv_bipush (v := 60) hx hb dX8_next_276 (by decide) ?_
            refine lv_icmp_eq (tgt := 315) hx hb dX8_next_278 (by decide) (fun c_9 => ?_) (fun c_9 => ?_)
            · refine lv_iconst (v := 3) hx hb dX8_next_315 (by decide) ?_
              refine lv_goto (tgt := 320) hx hb dX8_next_316 (by decide) ?_
              refine va_put (D := G.1) (ci := 8) (v := .int 3) (ty := .int) (C := RX8) (T := TX8) (N := 8) hx hb hts in_X8 tyX8 tyX8_ok nmX8 hown hK.1 hP hD hS 0 rfl rfl 3 (Nat.le_of_ble_eq_true rfl) (hts _ q652) (fun _ h => h) rfl (tyX8_ok 3 (Nat.le_of_ble_eq_true rfl)) rfl rfl (Nat.le_of_ble_eq_true rfl) dX8_next_320 (fun H locs hP hD hS => ?_)
              have hP : va_P G.1 zcl (rW_ G rA (nI rz) (nI t_1) (nI (t_1 + 1)) 3 r_number r_steps r_picture xA xa_trays xa_tape x_taped x_faultKind x_faultAt xa_bad xa_refused x_status x_above x_under nA xa_marks x_markMany xa_pictures x_lead x_round xa_ways x_bestSet x_bestMany x_left xa_aside xa_last x_hasLived xtape b_v0 b_v1 b_v2 b_v3 b_v4 b_v5 b_kind b_place) H := hP
              have hD : va_D A (rW_ G rA (nI rz) (nI t_1) (nI (t_1 + 1)) 3 r_number r_steps r_picture xA xa_trays xa_tape x_taped x_faultKind x_faultAt xa_bad xa_refused x_status x_above x_under nA xa_marks x_markMany xa_pictures x_lead x_round xa_ways x_bestSet x_bestMany x_left xa_aside xa_last x_hasLived xtape b_v0 b_v1 b_v2 b_v3 b_v4 b_v5 b_kind b_place) := hD
              have e_ : rf_next rz rb r_number xtape = (t_1, t_1 + 1, 3, r_number) := by rw [rf_next, zlet_eq ht_1, if_pos c_5, if_neg c_6, if_neg c_7, if_neg c_8, if_pos c_9]
              exact zr_mv hx hb hr hlocks hP hD hS dX8_next_323 rfl (by rw [e_]) (by rw [e_]; exact ⟨(by first | exact ⟨by omega, by omega, by omega⟩ | exact ⟨by dsimp only; omega, by dsimp only; omega, by dsimp only; omega⟩), (by first | exact Or.inl rfl | exact Or.inr (by omega) | exact Or.inr (by dsimp only; omega)), (by first | exact Or.inl rfl | exact Or.inr (by omega) | exact Or.inr (by dsimp only; omega))⟩)
            · refine lv_aload_n hx hb dX8_next_281 rfl (lv_at hl 0 rfl) ?_
              refine va_get (D := G.1) (ci := 8) (v := .ref xA) (C := RX8) (T := TX8) (N := 8) hx hb hts in_X8 hown hK.1 hP 0 rfl rfl 7 (Nat.le_of_ble_eq_true rfl) (hts _ q658) (fun _ h => h) rfl dX8_next_282 ?_
              refine va_getN (D := G.1) (ci := 0) (v := .ref xa_tape) (C := RX0) (T := TX0) (N := 23) hx hb hts in_X0 hown hK.1 hP 1 rfl rfl 1 (Nat.le_of_ble_eq_true rfl) ((hK.2.1.1 _ (List.mem_of_getElem? (i := 52) rfl)).use rfl) (fun _ h => h) rfl dX8_next_285 ?_
              refine lv_aload_n hx hb dX8_next_288 rfl (lv_at hl 0 rfl) ?_
              refine va_get (D := G.1) (ci := 8) (v := .int (nI t_1)) (C := RX8) (T := TX8) (N := 8) hx hb hts in_X8 hown hK.1 hP 0 rfl rfl 1 (Nat.le_of_ble_eq_true rfl) (hts _ q650) (fun _ h => h) rfl dX8_next_289 ?_
              refine zr_bald t_1 (v := xtape t_1) hx hb hK hP 2 rfl rfl (Nat.le_of_ble_eq_true rfl) rfl (by omega) rfl dX8_next_292 ?_
              refine lv_bipush (v := 62) hx hb dX8_next_293 (by decide) ?_
              refine lv_icmp_eq (tgt := 315) hx hb dX8_next_295 (by decide) (fun c_10 => ?_) (fun c_10 => ?_)
              · refine lv_iconst (v := 3) hx hb dX8_next_315 (by decide) ?_
                refine lv_goto (tgt := 320) hx hb dX8_next_316 (by decide) ?_
                refine va_put (D := G.1) (ci := 8) (v := .int 3) (ty := .int) (C := RX8) (T := TX8) (N := 8) hx hb hts in_X8 tyX8 tyX8_ok nmX8 hown hK.1 hP hD hS 0 rfl rfl 3 (Nat.le_of_ble_eq_true rfl) (hts _ q652) (fun _ h => h) rfl (tyX8_ok 3 (Nat.le_of_ble_eq_true rfl)) rfl rfl (Nat.le_of_ble_eq_true rfl) dX8_next_320 (fun H locs hP hD hS => ?_)
                have hP : va_P G.1 zcl (rW_ G rA (nI rz) (nI t_1) (nI (t_1 + 1)) 3 r_number r_steps r_picture xA xa_trays xa_tape x_taped x_faultKind x_faultAt xa_bad xa_refused x_status x_above x_under nA xa_marks x_markMany xa_pictures x_lead x_round xa_ways x_bestSet x_bestMany x_left xa_aside xa_last x_hasLived xtape b_v0 b_v1 b_v2 b_v3 b_v4 b_v5 b_kind b_place) H := hP
                have hD : va_D A (rW_ G rA (nI rz) (nI t_1) (nI (t_1 + 1)) 3 r_number r_steps r_picture xA xa_trays xa_tape x_taped x_faultKind x_faultAt xa_bad xa_refused x_status x_above x_under nA xa_marks x_markMany xa_pictures x_lead x_round xa_ways x_bestSet x_bestMany x_left xa_aside xa_last x_hasLived xtape b_v0 b_v1 b_v2 b_v3 b_v4 b_v5 b_kind b_place) := hD
                have e_ : rf_next rz rb r_number xtape = (t_1, t_1 + 1, 3, r_number) := by rw [rf_next, zlet_eq ht_1, if_pos c_5, if_neg c_6, if_neg c_7, if_neg c_8, if_neg c_9, if_pos c_10]
                exact zr_mv hx hb hr hlocks hP hD hS dX8_next_323 rfl (by rw [e_]) (by rw [e_]; exact ⟨(by first | exact ⟨by omega, by omega, by omega⟩ | exact ⟨by dsimp only; omega, by dsimp only; omega, by dsimp only; omega⟩), (by first | exact Or.inl rfl | exact Or.inr (by omega) | exact Or.inr (by dsimp only; omega)), (by first | exact Or.inl rfl | exact Or.inr (by omega) | exact Or.inr (by dsimp only; omega))⟩)
              · refine lv_aload_n hx hb dX8_next_298 rfl (lv_at hl 0 rfl) ?_
                refine va_get (D := G.1) (ci := 8) (v := .ref xA) (C := RX8) (T := TX8) (N := 8) hx hb hts in_X8 hown hK.1 hP 0 rfl rfl 7 (Nat.le_of_ble_eq_true rfl) (hts _ q658) (fun _ h => h) rfl dX8_next_299 ?_
                refine va_getN (D := G.1) (ci := 0) (v := .ref xa_tape) (C := RX0) (T := TX0) (N := 23) hx hb hts in_X0 hown hK.1 hP 1 rfl rfl 1 (Nat.le_of_ble_eq_true rfl) ((hK.2.1.1 _ (List.mem_of_getElem? (i := 52) rfl)).use rfl) (fun _ h => h) rfl dX8_next_302 ?_
                refine lv_aload_n hx hb dX8_next_305 rfl (lv_at hl 0 rfl) ?_
                refine va_get (D := G.1) (ci := 8) (v := .int (nI t_1)) (C := RX8) (T := TX8) (N := 8) hx hb hts in_X8 hown hK.1 hP 0 rfl rfl 1 (Nat.le_of_ble_eq_true rfl) (hts _ q650) (fun _ h => h) rfl dX8_next_306 ?_
                refine zr_bald t_1 (v := xtape t_1) hx hb hK hP 2 rfl rfl (Nat.le_of_ble_eq_true rfl) rfl (by omega) rfl dX8_next_309 ?_
                refine lv_bipush (v := 61) hx hb dX8_next_310 (by decide) ?_
                refine lv_icmp_ne (tgt := 319) hx hb dX8_next_312 (by decide) (fun c_11 => ?_) (fun c_11 => ?_)
                · refine lv_iconst (v := 4) hx hb dX8_next_319 (by decide) ?_
                  refine va_put (D := G.1) (ci := 8) (v := .int 4) (ty := .int) (C := RX8) (T := TX8) (N := 8) hx hb hts in_X8 tyX8 tyX8_ok nmX8 hown hK.1 hP hD hS 0 rfl rfl 3 (Nat.le_of_ble_eq_true rfl) (hts _ q652) (fun _ h => h) rfl (tyX8_ok 3 (Nat.le_of_ble_eq_true rfl)) rfl rfl (Nat.le_of_ble_eq_true rfl) dX8_next_320 (fun H locs hP hD hS => ?_)
                  have hP : va_P G.1 zcl (rW_ G rA (nI rz) (nI t_1) (nI (t_1 + 1)) 4 r_number r_steps r_picture xA xa_trays xa_tape x_taped x_faultKind x_faultAt xa_bad xa_refused x_status x_above x_under nA xa_marks x_markMany xa_pictures x_lead x_round xa_ways x_bestSet x_bestMany x_left xa_aside xa_last x_hasLived xtape b_v0 b_v1 b_v2 b_v3 b_v4 b_v5 b_kind b_place) H := hP
                  have hD : va_D A (rW_ G rA (nI rz) (nI t_1) (nI (t_1 + 1)) 4 r_number r_steps r_picture xA xa_trays xa_tape x_taped x_faultKind x_faultAt xa_bad xa_refused x_status x_above x_under nA xa_marks x_markMany xa_pictures x_lead x_round xa_ways x_bestSet x_bestMany x_left xa_aside xa_last x_hasLived xtape b_v0 b_v1 b_v2 b_v3 b_v4 b_v5 b_kind b_place) := hD
                  have e_ : rf_next rz rb r_number xtape = (t_1, t_1 + 1, 4, r_number) := by rw [rf_next, zlet_eq ht_1, if_pos c_5, if_neg c_6, if_neg c_7, if_neg c_8, if_neg c_9, if_neg c_10, if_neg c_11]
                  exact zr_mv hx hb hr hlocks hP hD hS dX8_next_323 rfl (by rw [e_]) (by rw [e_]; exact ⟨(by first | exact ⟨by omega, by omega, by omega⟩ | exact ⟨by dsimp only; omega, by dsimp only; omega, by dsimp only; omega⟩), (by first | exact Or.inl rfl | exact Or.inr (by omega) | exact Or.inr (by dsimp only; omega)), (by first | exact Or.inl rfl | exact Or.inr (by omega) | exact Or.inr (by dsimp only; omega))⟩)
                · refine lv_iconst (v := 3) hx hb dX8_next_315 (by decide) ?_
                  refine lv_goto (tgt := 320) hx hb dX8_next_316 (by decide) ?_
                  refine va_put (D := G.1) (ci := 8) (v := .int 3) (ty := .int) (C := RX8) (T := TX8) (N := 8) hx hb hts in_X8 tyX8 tyX8_ok nmX8 hown hK.1 hP hD hS 0 rfl rfl 3 (Nat.le_of_ble_eq_true rfl) (hts _ q652) (fun _ h => h) rfl (tyX8_ok 3 (Nat.le_of_ble_eq_true rfl)) rfl rfl (Nat.le_of_ble_eq_true rfl) dX8_next_320 (fun H locs hP hD hS => ?_)
                  have hP : va_P G.1 zcl (rW_ G rA (nI rz) (nI t_1) (nI (t_1 + 1)) 3 r_number r_steps r_picture xA xa_trays xa_tape x_taped x_faultKind x_faultAt xa_bad xa_refused x_status x_above x_under nA xa_marks x_markMany xa_pictures x_lead x_round xa_ways x_bestSet x_bestMany x_left xa_aside xa_last x_hasLived xtape b_v0 b_v1 b_v2 b_v3 b_v4 b_v5 b_kind b_place) H := hP
                  have hD : va_D A (rW_ G rA (nI rz) (nI t_1) (nI (t_1 + 1)) 3 r_number r_steps r_picture xA xa_trays xa_tape x_taped x_faultKind x_faultAt xa_bad xa_refused x_status x_above x_under nA xa_marks x_markMany xa_pictures x_lead x_round xa_ways x_bestSet x_bestMany x_left xa_aside xa_last x_hasLived xtape b_v0 b_v1 b_v2 b_v3 b_v4 b_v5 b_kind b_place) := hD
                  have e_ : rf_next rz rb r_number xtape = (t_1, t_1 + 1, 3, r_number) := by rw [rf_next, zlet_eq ht_1, if_pos c_5, if_neg c_6, if_neg c_7, if_neg c_8, if_neg c_9, if_neg c_10, if_pos c_11]
                  exact zr_mv hx hb hr hlocks hP hD hS dX8_next_323 rfl (by rw [e_]) (by rw [e_]; exact ⟨(by first | exact ⟨by omega, by omega, by omega⟩ | exact ⟨by dsimp only; omega, by dsimp only; omega, by dsimp only; omega⟩), (by first | exact Or.inl rfl | exact Or.inr (by omega) | exact Or.inr (by dsimp only; omega)), (by first | exact Or.inl rfl | exact Or.inr (by omega) | exact Or.inr (by dsimp only; omega))⟩)
        · refine lv_aload_n hx hb dX8_next_142 rfl (lv_at hl 0 rfl) ?_
          refine lv_iconst (v := 0) hx hb dX8_next_143 (by decide) ?_
          refine va_put (D := G.1) (ci := 8) (v := .int 0) (ty := .int) (C := RX8) (T := TX8) (N := 8) hx hb hts in_X8 tyX8 tyX8_ok nmX8 hown hK.1 hP hD hS 0 rfl rfl 4 (Nat.le_of_ble_eq_true rfl) (hts _ q653) (fun _ h => h) rfl (tyX8_ok 4 (Nat.le_of_ble_eq_true rfl)) rfl rfl (Nat.le_of_ble_eq_true rfl) dX8_next_144 (fun H locs hP hD hS => ?_)
          have hP : va_P G.1 zcl (rW_ G rA (nI rz) (nI t_1) (nI t_1) 0 0 r_steps r_picture xA xa_trays xa_tape x_taped x_faultKind x_faultAt xa_bad xa_refused x_status x_above x_under nA xa_marks x_markMany xa_pictures x_lead x_round xa_ways x_bestSet x_bestMany x_left xa_aside xa_last x_hasLived xtape b_v0 b_v1 b_v2 b_v3 b_v4 b_v5 b_kind b_place) H := hP
          have hD : va_D A (rW_ G rA (nI rz) (nI t_1) (nI t_1) 0 0 r_steps r_picture xA xa_trays xa_tape x_taped x_faultKind x_faultAt xa_bad xa_refused x_status x_above x_under nA xa_marks x_markMany xa_pictures x_lead x_round xa_ways x_bestSet x_bestMany x_left xa_aside xa_last x_hasLived xtape b_v0 b_v1 b_v2 b_v3 b_v4 b_v5 b_kind b_place) := hD
          have hx_12 : ∀ t_12 : Nat × Int32, rf_next_L147 rz xtape t_1 (t_1, 0) = t_12 → t_1 < t_12.1 ∧ t_12.1 ≤ rz → ∀ (H : Heap) (locs : List Loc), va_P G.1 zcl (rW_ G rA (nI rz) (nI t_1) (nI t_12.1) 0 t_12.2 r_steps r_picture xA xa_trays xa_tape x_taped x_faultKind x_faultAt xa_bad xa_refused x_status x_above x_under nA xa_marks x_markMany xa_pictures x_lead x_round xa_ways x_bestSet x_bestMany x_left xa_aside xa_last x_hasLived xtape b_v0 b_v1 b_v2 b_v3 b_v4 b_v5 b_kind b_place) H → va_D A (rW_ G rA (nI rz) (nI t_1) (nI t_12.1) 0 t_12.2 r_steps r_picture xA xa_trays xa_tape x_taped x_faultKind x_faultAt xa_bad xa_refused x_status x_above x_under nA xa_marks x_markMany xa_pictures x_lead x_round xa_ways x_bestSet x_bestMany x_left xa_aside xa_last x_hasLived xtape b_v0 b_v1 b_v2 b_v3 b_v4 b_v5 b_kind b_place) → va_S A s.heap H locs → ∀ ls : Array Slot, lv_has ls 1 [(0, .ref rA)] → W p l e (zR 2 0 0) s m ([.ref rA] : List Value).toArray below meth c H locs 0 0 (MQ below (zQm G ((((rf_next rz rb r_number xtape).1) ≤ ((rf_next rz rb r_number xtape).2.1) ∧ ((rf_next rz rb r_number xtape).2.1) ≤ rz ∧ rb ≤ ((rf_next rz rb r_number xtape).1)) ∧ (((rf_next rz rb r_number xtape).2.2.1) = 0 ∨ ((rf_next rz rb r_number xtape).1) < ((rf_next rz rb r_number xtape).2.1)) ∧ (((rf_next rz rb r_number xtape).2.2.1) = 0 ∨ rb < ((rf_next rz rb r_number xtape).2.1))) none (rW_ G rA (nI rz) (nI ((rf_next rz rb r_number xtape).1)) (nI ((rf_next rz rb r_number xtape).2.1)) ((rf_next rz rb r_number xtape).2.2.1) ((rf_next rz rb r_number xtape).2.2.2) r_steps r_picture xA xa_trays xa_tape x_taped x_faultKind x_faultAt xa_bad xa_refused x_status x_above x_under nA xa_marks x_markMany xa_pictures x_lead x_round xa_ways x_bestSet x_bestMany x_left xa_aside xa_last x_hasLived xtape b_v0 b_v1 b_v2 b_v3 b_v4 b_v5 b_kind b_place) A) ([.ref rA] : List Value).toArray s 0 0 A) (F0 m 211 ls []) := by
            intro t_12 ht_12 hx2 H locs hP hD hS ls hl
            refine lv_aload_n hx hb dX8_next_211 rfl (lv_at hl 0 rfl) ?_
            refine lv_aload_n hx hb dX8_next_212 rfl (lv_at hl 0 rfl) ?_
            refine va_get (D := G.1) (ci := 8) (v := .int (nI t_12.1)) (C := RX8) (T := TX8) (N := 8) hx hb hts in_X8 hown hK.1 hP 0 rfl rfl 2 (Nat.le_of_ble_eq_true rfl) (hts _ q651) (fun _ h => h) rfl dX8_next_213 ?_
            refine lv_aload_n hx hb dX8_next_216 rfl (lv_at hl 0 rfl) ?_
            refine va_get (D := G.1) (ci := 8) (v := .int (nI t_1)) (C := RX8) (T := TX8) (N := 8) hx hb hts in_X8 hown hK.1 hP 0 rfl rfl 1 (Nat.le_of_ble_eq_true rfl) (hts _ q650) (fun _ h => h) rfl dX8_next_217 ?_
            refine zr_isubN t_12.1 t_1 (by omega) hx hb dX8_next_220 ?_
            refine lv_iconst (v := 4) hx hb dX8_next_221 (by decide) ?_
            refine zr_le (t_12.1 - t_1) 4 (by omega) (by decide) (tgt := 229) hx hb dX8_next_222 (by decide) (fun c_15 => ?_) (fun c_15 => ?_)
            · refine lv_iconst (v := 2) hx hb dX8_next_229 (by decide) ?_
              refine va_put (D := G.1) (ci := 8) (v := .int 2) (ty := .int) (C := RX8) (T := TX8) (N := 8) hx hb hts in_X8 tyX8 tyX8_ok nmX8 hown hK.1 hP hD hS 0 rfl rfl 3 (Nat.le_of_ble_eq_true rfl) (hts _ q652) (fun _ h => h) rfl (tyX8_ok 3 (Nat.le_of_ble_eq_true rfl)) rfl rfl (Nat.le_of_ble_eq_true rfl) dX8_next_230 (fun H locs hP hD hS => ?_)
              have hP : va_P G.1 zcl (rW_ G rA (nI rz) (nI t_1) (nI t_12.1) 2 t_12.2 r_steps r_picture xA xa_trays xa_tape x_taped x_faultKind x_faultAt xa_bad xa_refused x_status x_above x_under nA xa_marks x_markMany xa_pictures x_lead x_round xa_ways x_bestSet x_bestMany x_left xa_aside xa_last x_hasLived xtape b_v0 b_v1 b_v2 b_v3 b_v4 b_v5 b_kind b_place) H := hP
              have hD : va_D A (rW_ G rA (nI rz) (nI t_1) (nI t_12.1) 2 t_12.2 r_steps r_picture xA xa_trays xa_tape x_taped x_faultKind x_faultAt xa_bad xa_refused x_status x_above x_under nA xa_marks x_markMany xa_pictures x_lead x_round xa_ways x_bestSet x_bestMany x_left xa_aside xa_last x_hasLived xtape b_v0 b_v1 b_v2 b_v3 b_v4 b_v5 b_kind b_place) := hD
              refine lv_goto (tgt := 323) hx hb dX8_next_233 (by decide) ?_
              have e_ : rf_next rz rb r_number xtape = (t_1, t_12.1, 2, t_12.2) := by rw [rf_next, zlet_eq ht_1, if_pos c_5, if_neg c_6, if_pos c_7, zlet_eq ht_12, if_pos c_15]
              exact zr_mv hx hb hr hlocks hP hD hS dX8_next_323 rfl (by rw [e_]) (by rw [e_]; exact ⟨(by first | exact ⟨by omega, by omega, by omega⟩ | exact ⟨by dsimp only; omega, by dsimp only; omega, by dsimp only; omega⟩), (by first | exact Or.inl rfl | exact Or.inr (by omega) | exact Or.inr (by dsimp only; omega)), (by first | exact Or.inl rfl | exact Or.inr (by omega) | exact Or.inr (by dsimp only; omega))⟩)
            · refine lv_iconst (v := 4) hx hb dX8_next_225 (by decide) ?_
              refine lv_goto (tgt := 230) hx hb dX8_next_226 (by decide) ?_
              refine va_put (D := G.1) (ci := 8) (v := .int 4) (ty := .int) (C := RX8) (T := TX8) (N := 8) hx hb hts in_X8 tyX8 tyX8_ok nmX8 hown hK.1 hP hD hS 0 rfl rfl 3 (Nat.le_of_ble_eq_true rfl) (hts _ q652) (fun _ h => h) rfl (tyX8_ok 3 (Nat.le_of_ble_eq_true rfl)) rfl rfl (Nat.le_of_ble_eq_true rfl) dX8_next_230 (fun H locs hP hD hS => ?_)
              have hP : va_P G.1 zcl (rW_ G rA (nI rz) (nI t_1) (nI t_12.1) 4 t_12.2 r_steps r_picture xA xa_trays xa_tape x_taped x_faultKind x_faultAt xa_bad xa_refused x_status x_above x_under nA xa_marks x_markMany xa_pictures x_lead x_round xa_ways x_bestSet x_bestMany x_left xa_aside xa_last x_hasLived xtape b_v0 b_v1 b_v2 b_v3 b_v4 b_v5 b_kind b_place) H := hP
              have hD : va_D A (rW_ G rA (nI rz) (nI t_1) (nI t_12.1) 4 t_12.2 r_steps r_picture xA xa_trays xa_tape x_taped x_faultKind x_faultAt xa_bad xa_refused x_status x_above x_under nA xa_marks x_markMany xa_pictures x_lead x_round xa_ways x_bestSet x_bestMany x_left xa_aside xa_last x_hasLived xtape b_v0 b_v1 b_v2 b_v3 b_v4 b_v5 b_kind b_place) := hD
              refine lv_goto (tgt := 323) hx hb dX8_next_233 (by decide) ?_
              have e_ : rf_next rz rb r_number xtape = (t_1, t_12.1, 4, t_12.2) := by rw [rf_next, zlet_eq ht_1, if_pos c_5, if_neg c_6, if_pos c_7, zlet_eq ht_12, if_neg c_15]
              exact zr_mv hx hb hr hlocks hP hD hS dX8_next_323 rfl (by rw [e_]) (by rw [e_]; exact ⟨(by first | exact ⟨by omega, by omega, by omega⟩ | exact ⟨by dsimp only; omega, by dsimp only; omega, by dsimp only; omega⟩), (by first | exact Or.inl rfl | exact Or.inr (by omega) | exact Or.inr (by dsimp only; omega)), (by first | exact Or.inl rfl | exact Or.inr (by omega) | exact Or.inr (by dsimp only; omega))⟩)
          have hlp_12 : ∀ (n : Nat) (s_12 : Nat × Int32), rz - s_12.1 < n → zw (rf_next_B147 rz xtape t_1) (t_1, 0) n s_12 = rf_next_L147 rz xtape t_1 (t_1, 0) → t_1 ≤ s_12.1 ∧ s_12.1 ≤ rz → ∀ (H : Heap) (locs : List Loc), va_P G.1 zcl (rW_ G rA (nI rz) (nI t_1) (nI s_12.1) 0 s_12.2 r_steps r_picture xA xa_trays xa_tape x_taped x_faultKind x_faultAt xa_bad xa_refused x_status x_above x_under nA xa_marks x_markMany xa_pictures x_lead x_round xa_ways x_bestSet x_bestMany x_left xa_aside xa_last x_hasLived xtape b_v0 b_v1 b_v2 b_v3 b_v4 b_v5 b_kind b_place) H → va_D A (rW_ G rA (nI rz) (nI t_1) (nI s_12.1) 0 s_12.2 r_steps r_picture xA xa_trays xa_tape x_taped x_faultKind x_faultAt xa_bad xa_refused x_status x_above x_under nA xa_marks x_markMany xa_pictures x_lead x_round xa_ways x_bestSet x_bestMany x_left xa_aside xa_last x_hasLived xtape b_v0 b_v1 b_v2 b_v3 b_v4 b_v5 b_kind b_place) → va_S A s.heap H locs → ∀ ls : Array Slot, lv_has ls 1 [(0, .ref rA)] → W p l e (zR 2 0 0) s m ([.ref rA] : List Value).toArray below meth c H locs 0 0 (MQ below (zQm G ((((rf_next rz rb r_number xtape).1) ≤ ((rf_next rz rb r_number xtape).2.1) ∧ ((rf_next rz rb r_number xtape).2.1) ≤ rz ∧ rb ≤ ((rf_next rz rb r_number xtape).1)) ∧ (((rf_next rz rb r_number xtape).2.2.1) = 0 ∨ ((rf_next rz rb r_number xtape).1) < ((rf_next rz rb r_number xtape).2.1)) ∧ (((rf_next rz rb r_number xtape).2.2.1) = 0 ∨ rb < ((rf_next rz rb r_number xtape).2.1))) none (rW_ G rA (nI rz) (nI ((rf_next rz rb r_number xtape).1)) (nI ((rf_next rz rb r_number xtape).2.1)) ((rf_next rz rb r_number xtape).2.2.1) ((rf_next rz rb r_number xtape).2.2.2) r_steps r_picture xA xa_trays xa_tape x_taped x_faultKind x_faultAt xa_bad xa_refused x_status x_above x_under nA xa_marks x_markMany xa_pictures x_lead x_round xa_ways x_bestSet x_bestMany x_left xa_aside xa_last x_hasLived xtape b_v0 b_v1 b_v2 b_v3 b_v4 b_v5 b_kind b_place) A) ([.ref rA] : List Value).toArray s 0 0 A) (F0 m 147 ls []) := by
            intro n
            induction n with
            | zero => exact fun _ h => absurd h (Nat.not_lt_zero _)
            | succ n ih_12 =>
              intro s_12 hmu_12 hR_12 hi2 H locs hP hD hS ls hl
              refine lv_aload_n hx hb dX8_next_147 rfl (lv_at hl 0 rfl) ?_
              refine lv_aload_n hx hb dX8_next_148 rfl (lv_at hl 0 rfl) ?_
              refine va_get (D := G.1) (ci := 8) (v := .int (nI s_12.1)) (C := RX8) (T := TX8) (N := 8) hx hb hts in_X8 hown hK.1 hP 0 rfl rfl 2 (Nat.le_of_ble_eq_true rfl) (hts _ q651) (fun _ h => h) rfl dX8_next_149 ?_
              refine zr_obV ⟨hx, hb, hml, hown, hts⟩ (mt_rf_isDigit l G rA rz t_1 s_12.1 0 s_12.2 r_steps r_picture xA xa_trays xa_tape x_taped x_faultKind x_faultAt xa_bad xa_refused x_status x_above x_under nA xa_marks x_markMany xa_pictures x_lead x_round xa_ways x_bestSet x_bestMany x_left xa_aside xa_last x_hasLived xtape b_v0 b_v1 b_v2 b_v3 b_v4 b_v5 b_kind b_place s_12.1 hrz (by omega)) (cwV 1 hts (lw_V q645 q647 qs9 q151 q648) rfl rfl rfl hd_X8_isDigit ⟨(Nat.le_of_ble_eq_true rfl), (Nat.le_of_ble_eq_true rfl)⟩) hP hK (zE_o hE hS) 0 8 rfl rfl rfl hl.1 rfl (Nat.le_of_ble_eq_true rfl) dX8_next_152 ⟨Nat.le_refl _, Nat.le_refl _⟩ ?_
              refine zr_eqB (rf_isDigit rz xtape s_12.1) (tgt := 211) hx hb dX8_next_155 (by decide) (fun c_13 => ?_) (fun c_13 => ?_)
              · exact hx_12 (s_12.1, s_12.2) (hR_12.symm.trans (zw_r (by rw [rf_next_B147, if_neg c_13]))) (⟨(Nat.lt_of_le_of_ne hi2.1 (fun q => (show ¬ rf_isDigit rz xtape s_12.1 = true by assumption) (q ▸ (show rf_isDigit rz xtape t_1 = true by assumption)))), hi2.2⟩) H locs hP hD hS ls (lv_sub hl [0] rfl)
              · have hlt := isDigitX_lt c_13
                refine lv_aload_n hx hb dX8_next_158 rfl (lv_at hl 0 rfl) ?_
                refine va_get (D := G.1) (ci := 8) (v := .int (nI s_12.1)) (C := RX8) (T := TX8) (N := 8) hx hb hts in_X8 hown hK.1 hP 0 rfl rfl 2 (Nat.le_of_ble_eq_true rfl) (hts _ q651) (fun _ h => h) rfl dX8_next_159 ?_
                refine lv_aload_n hx hb dX8_next_162 rfl (lv_at hl 0 rfl) ?_
                refine va_get (D := G.1) (ci := 8) (v := .int (nI t_1)) (C := RX8) (T := TX8) (N := 8) hx hb hts in_X8 hown hK.1 hP 0 rfl rfl 1 (Nat.le_of_ble_eq_true rfl) (hts _ q650) (fun _ h => h) rfl dX8_next_163 ?_
                refine zr_isubN s_12.1 t_1 (by omega) hx hb dX8_next_166 ?_
                refine lv_iconst (v := 4) hx hb dX8_next_167 (by decide) ?_
                refine zr_ge (s_12.1 - t_1) 4 (by omega) (by decide) (tgt := 198) hx hb dX8_next_168 (by decide) (fun c_14 => ?_) (fun c_14 => ?_)
                · refine lv_aload_n hx hb dX8_next_198 rfl (lv_at hl 0 rfl) ?_
                  refine lv_dup hx hb dX8_next_199 rfl ?_
                  refine va_get (D := G.1) (ci := 8) (v := .int (nI s_12.1)) (C := RX8) (T := TX8) (N := 8) hx hb hts in_X8 hown hK.1 hP 0 rfl rfl 2 (Nat.le_of_ble_eq_true rfl) (hts _ q651) (fun _ h => h) rfl dX8_next_200 ?_
                  refine lv_iconst (v := 1) hx hb dX8_next_203 (by decide) ?_
                  refine zr_iaddN s_12.1 1 hx hb dX8_next_204 ?_
                  refine va_put (D := G.1) (ci := 8) (v := .int (nI (s_12.1 + 1))) (ty := .int) (C := RX8) (T := TX8) (N := 8) hx hb hts in_X8 tyX8 tyX8_ok nmX8 hown hK.1 hP hD hS 0 rfl rfl 2 (Nat.le_of_ble_eq_true rfl) (hts _ q651) (fun _ h => h) rfl (tyX8_ok 2 (Nat.le_of_ble_eq_true rfl)) rfl rfl (Nat.le_of_ble_eq_true rfl) dX8_next_205 (fun H locs hP hD hS => ?_)
                  have hP : va_P G.1 zcl (rW_ G rA (nI rz) (nI t_1) (nI (s_12.1 + 1)) 0 s_12.2 r_steps r_picture xA xa_trays xa_tape x_taped x_faultKind x_faultAt xa_bad xa_refused x_status x_above x_under nA xa_marks x_markMany xa_pictures x_lead x_round xa_ways x_bestSet x_bestMany x_left xa_aside xa_last x_hasLived xtape b_v0 b_v1 b_v2 b_v3 b_v4 b_v5 b_kind b_place) H := hP
                  have hD : va_D A (rW_ G rA (nI rz) (nI t_1) (nI (s_12.1 + 1)) 0 s_12.2 r_steps r_picture xA xa_trays xa_tape x_taped x_faultKind x_faultAt xa_bad xa_refused x_status x_above x_under nA xa_marks x_markMany xa_pictures x_lead x_round xa_ways x_bestSet x_bestMany x_left xa_aside xa_last x_hasLived xtape b_v0 b_v1 b_v2 b_v3 b_v4 b_v5 b_kind b_place) := hD
                  refine lv_goto (tgt := 147) hx hb dX8_next_208 (by decide) ?_
                  exact ih_12 (s_12.1 + 1, s_12.2) (by omega) ((zw_l (by rw [rf_next_B147, if_pos c_13, if_pos c_14])).symm.trans hR_12) (by omega) H locs hP hD hS ls (lv_sub hl [0] rfl)
                · refine lv_aload_n hx hb dX8_next_171 rfl (lv_at hl 0 rfl) ?_
                  refine lv_bipush (v := 10) hx hb dX8_next_172 (by decide) ?_
                  refine lv_aload_n hx hb dX8_next_174 rfl (lv_at hl 0 rfl) ?_
                  refine va_get (D := G.1) (ci := 8) (v := .int s_12.2) (C := RX8) (T := TX8) (N := 8) hx hb hts in_X8 hown hK.1 hP 0 rfl rfl 4 (Nat.le_of_ble_eq_true rfl) (hts _ q653) (fun _ h => h) rfl dX8_next_175 ?_
                  refine lv_imul hx hb dX8_next_178 ?_
                  refine lv_aload_n hx hb dX8_next_179 rfl (lv_at hl 0 rfl) ?_
                  refine va_get (D := G.1) (ci := 8) (v := .ref xA) (C := RX8) (T := TX8) (N := 8) hx hb hts in_X8 hown hK.1 hP 0 rfl rfl 7 (Nat.le_of_ble_eq_true rfl) (hts _ q658) (fun _ h => h) rfl dX8_next_180 ?_
                  refine va_getN (D := G.1) (ci := 0) (v := .ref xa_tape) (C := RX0) (T := TX0) (N := 23) hx hb hts in_X0 hown hK.1 hP 1 rfl rfl 1 (Nat.le_of_ble_eq_true rfl) ((hK.2.1.1 _ (List.mem_of_getElem? (i := 52) rfl)).use rfl) (fun _ h => h) rfl dX8_next_183 ?_
                  refine lv_aload_n hx hb dX8_next_186 rfl (lv_at hl 0 rfl) ?_
                  refine va_get (D := G.1) (ci := 8) (v := .int (nI s_12.1)) (C := RX8) (T := TX8) (N := 8) hx hb hts in_X8 hown hK.1 hP 0 rfl rfl 2 (Nat.le_of_ble_eq_true rfl) (hts _ q651) (fun _ h => h) rfl dX8_next_187 ?_
                  refine zr_bald s_12.1 (v := xtape s_12.1) hx hb hK hP 2 rfl rfl (Nat.le_of_ble_eq_true rfl) rfl (by omega) rfl dX8_next_190 ?_
                  refine lv_iadd hx hb dX8_next_191 ?_
                  refine lv_bipush (v := 48) hx hb dX8_next_192 (by decide) ?_
                  refine lv_isub hx hb dX8_next_194 ?_
                  refine va_put (D := G.1) (ci := 8) (v := .int (((10 * s_12.2) + (xtape s_12.1)) - 48)) (ty := .int) (C := RX8) (T := TX8) (N := 8) hx hb hts in_X8 tyX8 tyX8_ok nmX8 hown hK.1 hP hD hS 0 rfl rfl 4 (Nat.le_of_ble_eq_true rfl) (hts _ q653) (fun _ h => h) rfl (tyX8_ok 4 (Nat.le_of_ble_eq_true rfl)) rfl rfl (Nat.le_of_ble_eq_true rfl) dX8_next_195 (fun H locs hP hD hS => ?_)
                  have hP : va_P G.1 zcl (rW_ G rA (nI rz) (nI t_1) (nI s_12.1) 0 (((10 * s_12.2) + (xtape s_12.1)) - 48) r_steps r_picture xA xa_trays xa_tape x_taped x_faultKind x_faultAt xa_bad xa_refused x_status x_above x_under nA xa_marks x_markMany xa_pictures x_lead x_round xa_ways x_bestSet x_bestMany x_left xa_aside xa_last x_hasLived xtape b_v0 b_v1 b_v2 b_v3 b_v4 b_v5 b_kind b_place) H := hP
                  have hD : va_D A (rW_ G rA (nI rz) (nI t_1) (nI s_12.1) 0 (((10 * s_12.2) + (xtape s_12.1)) - 48) r_steps r_picture xA xa_trays xa_tape x_taped x_faultKind x_faultAt xa_bad xa_refused x_status x_above x_under nA xa_marks x_markMany xa_pictures x_lead x_round xa_ways x_bestSet x_bestMany x_left xa_aside xa_last x_hasLived xtape b_v0 b_v1 b_v2 b_v3 b_v4 b_v5 b_kind b_place) := hD
                  refine lv_aload_n hx hb dX8_next_198 rfl (lv_at hl 0 rfl) ?_
                  refine lv_dup hx hb dX8_next_199 rfl ?_
                  refine va_get (D := G.1) (ci := 8) (v := .int (nI s_12.1)) (C := RX8) (T := TX8) (N := 8) hx hb hts in_X8 hown hK.1 hP 0 rfl rfl 2 (Nat.le_of_ble_eq_true rfl) (hts _ q651) (fun _ h => h) rfl dX8_next_200 ?_
                  refine lv_iconst (v := 1) hx hb dX8_next_203 (by decide) ?_
                  refine zr_iaddN s_12.1 1 hx hb dX8_next_204 ?_
                  refine va_put (D := G.1) (ci := 8) (v := .int (nI (s_12.1 + 1))) (ty := .int) (C := RX8) (T := TX8) (N := 8) hx hb hts in_X8 tyX8 tyX8_ok nmX8 hown hK.1 hP hD hS 0 rfl rfl 2 (Nat.le_of_ble_eq_true rfl) (hts _ q651) (fun _ h => h) rfl (tyX8_ok 2 (Nat.le_of_ble_eq_true rfl)) rfl rfl (Nat.le_of_ble_eq_true rfl) dX8_next_205 (fun H locs hP hD hS => ?_)
                  have hP : va_P G.1 zcl (rW_ G rA (nI rz) (nI t_1) (nI (s_12.1 + 1)) 0 (((10 * s_12.2) + (xtape s_12.1)) - 48) r_steps r_picture xA xa_trays xa_tape x_taped x_faultKind x_faultAt xa_bad xa_refused x_status x_above x_under nA xa_marks x_markMany xa_pictures x_lead x_round xa_ways x_bestSet x_bestMany x_left xa_aside xa_last x_hasLived xtape b_v0 b_v1 b_v2 b_v3 b_v4 b_v5 b_kind b_place) H := hP
                  have hD : va_D A (rW_ G rA (nI rz) (nI t_1) (nI (s_12.1 + 1)) 0 (((10 * s_12.2) + (xtape s_12.1)) - 48) r_steps r_picture xA xa_trays xa_tape x_taped x_faultKind x_faultAt xa_bad xa_refused x_status x_above x_under nA xa_marks x_markMany xa_pictures x_lead x_round xa_ways x_bestSet x_bestMany x_left xa_aside xa_last x_hasLived xtape b_v0 b_v1 b_v2 b_v3 b_v4 b_v5 b_kind b_place) := hD
                  refine lv_goto (tgt := 147) hx hb dX8_next_208 (by decide) ?_
                  exact ih_12 (s_12.1 + 1, ((10 * s_12.2) + (xtape s_12.1)) - 48) (by omega) ((zw_l (by rw [rf_next_B147, if_pos c_13, if_neg c_14])).symm.trans hR_12) (by omega) H locs hP hD hS ls (lv_sub hl [0] rfl)
          exact hlp_12 _ (t_1, 0) (Nat.lt_succ_self _) (by rw [rf_next_L147]) (by omega) H locs hP hD hS ls (lv_sub hl [0] rfl)
      · refine lv_aload_n hx hb dX8_next_102 rfl (lv_at hl 0 rfl) ?_
        refine lv_iconst (v := 1) hx hb dX8_next_103 (by decide) ?_
        refine va_put (D := G.1) (ci := 8) (v := .int 1) (ty := .int) (C := RX8) (T := TX8) (N := 8) hx hb hts in_X8 tyX8 tyX8_ok nmX8 hown hK.1 hP hD hS 0 rfl rfl 3 (Nat.le_of_ble_eq_true rfl) (hts _ q652) (fun _ h => h) rfl (tyX8_ok 3 (Nat.le_of_ble_eq_true rfl)) rfl rfl (Nat.le_of_ble_eq_true rfl) dX8_next_104 (fun H locs hP hD hS => ?_)
        have hP : va_P G.1 zcl (rW_ G rA (nI rz) (nI t_1) (nI t_1) 1 r_number r_steps r_picture xA xa_trays xa_tape x_taped x_faultKind x_faultAt xa_bad xa_refused x_status x_above x_under nA xa_marks x_markMany xa_pictures x_lead x_round xa_ways x_bestSet x_bestMany x_left xa_aside xa_last x_hasLived xtape b_v0 b_v1 b_v2 b_v3 b_v4 b_v5 b_kind b_place) H := hP
        have hD : va_D A (rW_ G rA (nI rz) (nI t_1) (nI t_1) 1 r_number r_steps r_picture xA xa_trays xa_tape x_taped x_faultKind x_faultAt xa_bad xa_refused x_status x_above x_under nA xa_marks x_markMany xa_pictures x_lead x_round xa_ways x_bestSet x_bestMany x_left xa_aside xa_last x_hasLived xtape b_v0 b_v1 b_v2 b_v3 b_v4 b_v5 b_kind b_place) := hD
        have hx_16 : ∀ t_16 : Nat, rf_next_L107 rz xtape t_1 t_1 = t_16 → t_1 < t_16 ∧ t_16 ≤ rz → ∀ (H : Heap) (locs : List Loc), va_P G.1 zcl (rW_ G rA (nI rz) (nI t_1) (nI t_16) 1 r_number r_steps r_picture xA xa_trays xa_tape x_taped x_faultKind x_faultAt xa_bad xa_refused x_status x_above x_under nA xa_marks x_markMany xa_pictures x_lead x_round xa_ways x_bestSet x_bestMany x_left xa_aside xa_last x_hasLived xtape b_v0 b_v1 b_v2 b_v3 b_v4 b_v5 b_kind b_place) H → va_D A (rW_ G rA (nI rz) (nI t_1) (nI t_16) 1 r_number r_steps r_picture xA xa_trays xa_tape x_taped x_faultKind x_faultAt xa_bad xa_refused x_status x_above x_under nA xa_marks x_markMany xa_pictures x_lead x_round xa_ways x_bestSet x_bestMany x_left xa_aside xa_last x_hasLived xtape b_v0 b_v1 b_v2 b_v3 b_v4 b_v5 b_kind b_place) → va_S A s.heap H locs → ∀ ls : Array Slot, lv_has ls 1 [] → W p l e (zR 2 0 0) s m ([.ref rA] : List Value).toArray below meth c H locs 0 0 (MQ below (zQm G ((((rf_next rz rb r_number xtape).1) ≤ ((rf_next rz rb r_number xtape).2.1) ∧ ((rf_next rz rb r_number xtape).2.1) ≤ rz ∧ rb ≤ ((rf_next rz rb r_number xtape).1)) ∧ (((rf_next rz rb r_number xtape).2.2.1) = 0 ∨ ((rf_next rz rb r_number xtape).1) < ((rf_next rz rb r_number xtape).2.1)) ∧ (((rf_next rz rb r_number xtape).2.2.1) = 0 ∨ rb < ((rf_next rz rb r_number xtape).2.1))) none (rW_ G rA (nI rz) (nI ((rf_next rz rb r_number xtape).1)) (nI ((rf_next rz rb r_number xtape).2.1)) ((rf_next rz rb r_number xtape).2.2.1) ((rf_next rz rb r_number xtape).2.2.2) r_steps r_picture xA xa_trays xa_tape x_taped x_faultKind x_faultAt xa_bad xa_refused x_status x_above x_under nA xa_marks x_markMany xa_pictures x_lead x_round xa_ways x_bestSet x_bestMany x_left xa_aside xa_last x_hasLived xtape b_v0 b_v1 b_v2 b_v3 b_v4 b_v5 b_kind b_place) A) ([.ref rA] : List Value).toArray s 0 0 A) (F0 m 323 ls []) := by
          intro t_16 ht_16 hx1 H locs hP hD hS ls hl
          have e_ : rf_next rz rb r_number xtape = (t_1, t_16, 1, r_number) := by rw [rf_next, zlet_eq ht_1, if_pos c_5, if_pos c_6, zlet_eq ht_16]
          exact zr_mv hx hb hr hlocks hP hD hS dX8_next_323 rfl (by rw [e_]) (by rw [e_]; exact ⟨(by first | exact ⟨by omega, by omega, by omega⟩ | exact ⟨by dsimp only; omega, by dsimp only; omega, by dsimp only; omega⟩), (by first | exact Or.inl rfl | exact Or.inr (by omega) | exact Or.inr (by dsimp only; omega)), (by first | exact Or.inl rfl | exact Or.inr (by omega) | exact Or.inr (by dsimp only; omega))⟩)
        have hlp_16 : ∀ (n : Nat) (s_16 : Nat), rz - s_16 < n → zw (rf_next_B107 rz xtape t_1) t_1 n s_16 = rf_next_L107 rz xtape t_1 t_1 → t_1 ≤ s_16 ∧ s_16 ≤ rz → ∀ (H : Heap) (locs : List Loc), va_P G.1 zcl (rW_ G rA (nI rz) (nI t_1) (nI s_16) 1 r_number r_steps r_picture xA xa_trays xa_tape x_taped x_faultKind x_faultAt xa_bad xa_refused x_status x_above x_under nA xa_marks x_markMany xa_pictures x_lead x_round xa_ways x_bestSet x_bestMany x_left xa_aside xa_last x_hasLived xtape b_v0 b_v1 b_v2 b_v3 b_v4 b_v5 b_kind b_place) H → va_D A (rW_ G rA (nI rz) (nI t_1) (nI s_16) 1 r_number r_steps r_picture xA xa_trays xa_tape x_taped x_faultKind x_faultAt xa_bad xa_refused x_status x_above x_under nA xa_marks x_markMany xa_pictures x_lead x_round xa_ways x_bestSet x_bestMany x_left xa_aside xa_last x_hasLived xtape b_v0 b_v1 b_v2 b_v3 b_v4 b_v5 b_kind b_place) → va_S A s.heap H locs → ∀ ls : Array Slot, lv_has ls 1 [(0, .ref rA)] → W p l e (zR 2 0 0) s m ([.ref rA] : List Value).toArray below meth c H locs 0 0 (MQ below (zQm G ((((rf_next rz rb r_number xtape).1) ≤ ((rf_next rz rb r_number xtape).2.1) ∧ ((rf_next rz rb r_number xtape).2.1) ≤ rz ∧ rb ≤ ((rf_next rz rb r_number xtape).1)) ∧ (((rf_next rz rb r_number xtape).2.2.1) = 0 ∨ ((rf_next rz rb r_number xtape).1) < ((rf_next rz rb r_number xtape).2.1)) ∧ (((rf_next rz rb r_number xtape).2.2.1) = 0 ∨ rb < ((rf_next rz rb r_number xtape).2.1))) none (rW_ G rA (nI rz) (nI ((rf_next rz rb r_number xtape).1)) (nI ((rf_next rz rb r_number xtape).2.1)) ((rf_next rz rb r_number xtape).2.2.1) ((rf_next rz rb r_number xtape).2.2.2) r_steps r_picture xA xa_trays xa_tape x_taped x_faultKind x_faultAt xa_bad xa_refused x_status x_above x_under nA xa_marks x_markMany xa_pictures x_lead x_round xa_ways x_bestSet x_bestMany x_left xa_aside xa_last x_hasLived xtape b_v0 b_v1 b_v2 b_v3 b_v4 b_v5 b_kind b_place) A) ([.ref rA] : List Value).toArray s 0 0 A) (F0 m 107 ls []) := by
          intro n
          induction n with
          | zero => exact fun _ h => absurd h (Nat.not_lt_zero _)
          | succ n ih_16 =>
            intro s_16 hmu_16 hR_16 hi1 H locs hP hD hS ls hl
            refine lv_aload_n hx hb dX8_next_107 rfl (lv_at hl 0 rfl) ?_
            refine lv_aload_n hx hb dX8_next_108 rfl (lv_at hl 0 rfl) ?_
            refine va_get (D := G.1) (ci := 8) (v := .int (nI s_16)) (C := RX8) (T := TX8) (N := 8) hx hb hts in_X8 hown hK.1 hP 0 rfl rfl 2 (Nat.le_of_ble_eq_true rfl) (hts _ q651) (fun _ h => h) rfl dX8_next_109 ?_
            refine zr_obV ⟨hx, hb, hml, hown, hts⟩ (mt_rf_isLetter l G rA rz t_1 s_16 1 r_number r_steps r_picture xA xa_trays xa_tape x_taped x_faultKind x_faultAt xa_bad xa_refused x_status x_above x_under nA xa_marks x_markMany xa_pictures x_lead x_round xa_ways x_bestSet x_bestMany x_left xa_aside xa_last x_hasLived xtape b_v0 b_v1 b_v2 b_v3 b_v4 b_v5 b_kind b_place s_16 hrz (by omega)) (cwV 1 hts (lw_V q641 q643 qs8 q151 q644) rfl rfl rfl hd_X8_isLetter ⟨(Nat.le_of_ble_eq_true rfl), (Nat.le_of_ble_eq_true rfl)⟩) hP hK (zE_o hE hS) 0 8 rfl rfl rfl hl.1 rfl (Nat.le_of_ble_eq_true rfl) dX8_next_112 ⟨Nat.le_refl _, Nat.le_refl _⟩ ?_
            refine zr_eqB (rf_isLetter rz xtape s_16) (tgt := 323) hx hb dX8_next_115 (by decide) (fun c_17 => ?_) (fun c_17 => ?_)
            · exact hx_16 s_16 (hR_16.symm.trans (zw_r (by rw [rf_next_B107, if_neg c_17]))) (⟨(Nat.lt_of_le_of_ne hi1.1 (fun q => (show ¬ rf_isLetter rz xtape s_16 = true by assumption) (q ▸ (show rf_isLetter rz xtape t_1 = true by assumption)))), hi1.2⟩) H locs hP hD hS ls (lv_sub hl [] rfl)
            · have hlt := isLetter_lt c_17
              refine lv_aload_n hx hb dX8_next_118 rfl (lv_at hl 0 rfl) ?_
              refine lv_dup hx hb dX8_next_119 rfl ?_
              refine va_get (D := G.1) (ci := 8) (v := .int (nI s_16)) (C := RX8) (T := TX8) (N := 8) hx hb hts in_X8 hown hK.1 hP 0 rfl rfl 2 (Nat.le_of_ble_eq_true rfl) (hts _ q651) (fun _ h => h) rfl dX8_next_120 ?_
              refine lv_iconst (v := 1) hx hb dX8_next_123 (by decide) ?_
              refine zr_iaddN s_16 1 hx hb dX8_next_124 ?_
              refine va_put (D := G.1) (ci := 8) (v := .int (nI (s_16 + 1))) (ty := .int) (C := RX8) (T := TX8) (N := 8) hx hb hts in_X8 tyX8 tyX8_ok nmX8 hown hK.1 hP hD hS 0 rfl rfl 2 (Nat.le_of_ble_eq_true rfl) (hts _ q651) (fun _ h => h) rfl (tyX8_ok 2 (Nat.le_of_ble_eq_true rfl)) rfl rfl (Nat.le_of_ble_eq_true rfl) dX8_next_125 (fun H locs hP hD hS => ?_)
              have hP : va_P G.1 zcl (rW_ G rA (nI rz) (nI t_1) (nI (s_16 + 1)) 1 r_number r_steps r_picture xA xa_trays xa_tape x_taped x_faultKind x_faultAt xa_bad xa_refused x_status x_above x_under nA xa_marks x_markMany xa_pictures x_lead x_round xa_ways x_bestSet x_bestMany x_left xa_aside xa_last x_hasLived xtape b_v0 b_v1 b_v2 b_v3 b_v4 b_v5 b_kind b_place) H := hP
              have hD : va_D A (rW_ G rA (nI rz) (nI t_1) (nI (s_16 + 1)) 1 r_number r_steps r_picture xA xa_trays xa_tape x_taped x_faultKind x_faultAt xa_bad xa_refused x_status x_above x_under nA xa_marks x_markMany xa_pictures x_lead x_round xa_ways x_bestSet x_bestMany x_left xa_aside xa_last x_hasLived xtape b_v0 b_v1 b_v2 b_v3 b_v4 b_v5 b_kind b_place) := hD
              refine lv_goto (tgt := 107) hx hb dX8_next_128 (by decide) ?_
              exact ih_16 (s_16 + 1) (by omega) ((zw_l (by rw [rf_next_B107, if_pos c_17])).symm.trans hR_16) (by omega) H locs hP hD hS ls (lv_sub hl [0] rfl)
        exact hlp_16 _ t_1 (Nat.lt_succ_self _) (by rw [rf_next_L107]) (by omega) H locs hP hD hS ls (lv_sub hl [0] rfl)
    · have e_ : rf_next rz rb r_number xtape = (t_1, t_1, 0, r_number) := by rw [rf_next, zlet_eq ht_1, if_neg c_5]
      exact zr_mv hx hb hr hlocks hP hD hS dX8_next_90 rfl (by rw [e_]) (by rw [e_]; exact ⟨(by first | exact ⟨by omega, by omega, by omega⟩ | exact ⟨by dsimp only; omega, by dsimp only; omega, by dsimp only; omega⟩), (by first | exact Or.inl rfl | exact Or.inr (by omega) | exact Or.inr (by dsimp only; omega)), (by first | exact Or.inl rfl | exact Or.inr (by omega) | exact Or.inr (by dsimp only; omega))⟩)
  have hlp_1 : ∀ (n : Nat) (s_1 : Nat), rz - s_1 < n → zw (rf_next_B8 rz rb xtape) rb n s_1 = rf_next_L8 rz rb xtape rb → rb ≤ s_1 ∧ s_1 ≤ rz → ∀ (H : Heap) (locs : List Loc), va_P G.1 zcl (rW_ G rA (nI rz) (nI s_1) (nI rb) r_sort r_number r_steps r_picture xA xa_trays xa_tape x_taped x_faultKind x_faultAt xa_bad xa_refused x_status x_above x_under nA xa_marks x_markMany xa_pictures x_lead x_round xa_ways x_bestSet x_bestMany x_left xa_aside xa_last x_hasLived xtape b_v0 b_v1 b_v2 b_v3 b_v4 b_v5 b_kind b_place) H → va_D A (rW_ G rA (nI rz) (nI s_1) (nI rb) r_sort r_number r_steps r_picture xA xa_trays xa_tape x_taped x_faultKind x_faultAt xa_bad xa_refused x_status x_above x_under nA xa_marks x_markMany xa_pictures x_lead x_round xa_ways x_bestSet x_bestMany x_left xa_aside xa_last x_hasLived xtape b_v0 b_v1 b_v2 b_v3 b_v4 b_v5 b_kind b_place) → va_S A s.heap H locs → ∀ ls : Array Slot, lv_has ls 1 [(0, .ref rA)] → W p l e (zR 2 0 0) s m ([.ref rA] : List Value).toArray below meth c H locs 0 0 (MQ below (zQm G ((((rf_next rz rb r_number xtape).1) ≤ ((rf_next rz rb r_number xtape).2.1) ∧ ((rf_next rz rb r_number xtape).2.1) ≤ rz ∧ rb ≤ ((rf_next rz rb r_number xtape).1)) ∧ (((rf_next rz rb r_number xtape).2.2.1) = 0 ∨ ((rf_next rz rb r_number xtape).1) < ((rf_next rz rb r_number xtape).2.1)) ∧ (((rf_next rz rb r_number xtape).2.2.1) = 0 ∨ rb < ((rf_next rz rb r_number xtape).2.1))) none (rW_ G rA (nI rz) (nI ((rf_next rz rb r_number xtape).1)) (nI ((rf_next rz rb r_number xtape).2.1)) ((rf_next rz rb r_number xtape).2.2.1) ((rf_next rz rb r_number xtape).2.2.2) r_steps r_picture xA xa_trays xa_tape x_taped x_faultKind x_faultAt xa_bad xa_refused x_status x_above x_under nA xa_marks x_markMany xa_pictures x_lead x_round xa_ways x_bestSet x_bestMany x_left xa_aside xa_last x_hasLived xtape b_v0 b_v1 b_v2 b_v3 b_v4 b_v5 b_kind b_place) A) ([.ref rA] : List Value).toArray s 0 0 A) (F0 m 8 ls []) := by
    intro n
    induction n with
    | zero => exact fun _ h => absurd h (Nat.not_lt_zero _)
    | succ n ih_1 =>
      intro s_1 hmu_1 hR_1 hi0 H locs hP hD hS ls hl
      refine lv_aload_n hx hb dX8_next_8 rfl (lv_at hl 0 rfl) ?_
      refine va_get (D := G.1) (ci := 8) (v := .int (nI s_1)) (C := RX8) (T := TX8) (N := 8) hx hb hts in_X8 hown hK.1 hP 0 rfl rfl 1 (Nat.le_of_ble_eq_true rfl) (hts _ q650) (fun _ h => h) rfl dX8_next_9 ?_
      refine lv_aload_n hx hb dX8_next_12 rfl (lv_at hl 0 rfl) ?_
      refine va_get (D := G.1) (ci := 8) (v := .int (nI rz)) (C := RX8) (T := TX8) (N := 8) hx hb hts in_X8 hown hK.1 hP 0 rfl rfl 0 (Nat.le_of_ble_eq_true rfl) (hts _ q649) (fun _ h => h) rfl dX8_next_13 ?_
      refine zr_ge s_1 rz (by omega) (by omega) (tgt := 66) hx hb dX8_next_16 (by decide) (fun c_2 => ?_) (fun c_2 => ?_)
      · exact hx_1 s_1 (hR_1.symm.trans (zw_r (by rw [rf_next_B8, if_pos c_2]))) hi0 H locs hP hD hS ls (lv_sub hl [0] rfl)
      · refine lv_aload_n hx hb dX8_next_19 rfl (lv_at hl 0 rfl) ?_
        refine va_get (D := G.1) (ci := 8) (v := .ref xA) (C := RX8) (T := TX8) (N := 8) hx hb hts in_X8 hown hK.1 hP 0 rfl rfl 7 (Nat.le_of_ble_eq_true rfl) (hts _ q658) (fun _ h => h) rfl dX8_next_20 ?_
        refine va_getN (D := G.1) (ci := 0) (v := .ref xa_tape) (C := RX0) (T := TX0) (N := 23) hx hb hts in_X0 hown hK.1 hP 1 rfl rfl 1 (Nat.le_of_ble_eq_true rfl) ((hK.2.1.1 _ (List.mem_of_getElem? (i := 52) rfl)).use rfl) (fun _ h => h) rfl dX8_next_23 ?_
        refine lv_aload_n hx hb dX8_next_26 rfl (lv_at hl 0 rfl) ?_
        refine va_get (D := G.1) (ci := 8) (v := .int (nI s_1)) (C := RX8) (T := TX8) (N := 8) hx hb hts in_X8 hown hK.1 hP 0 rfl rfl 1 (Nat.le_of_ble_eq_true rfl) (hts _ q650) (fun _ h => h) rfl dX8_next_27 ?_
        refine zr_bald s_1 (v := xtape s_1) hx hb hK hP 2 rfl rfl (Nat.le_of_ble_eq_true rfl) rfl (by omega) rfl dX8_next_30 ?_
        refine lv_bipush (v := 10) hx hb dX8_next_31 (by decide) ?_
        refine lv_icmp_eq (tgt := 53) hx hb dX8_next_33 (by decide) (fun c_3 => ?_) (fun c_3 => ?_)
        · refine lv_aload_n hx hb dX8_next_53 rfl (lv_at hl 0 rfl) ?_
          refine lv_dup hx hb dX8_next_54 rfl ?_
          refine va_get (D := G.1) (ci := 8) (v := .int (nI s_1)) (C := RX8) (T := TX8) (N := 8) hx hb hts in_X8 hown hK.1 hP 0 rfl rfl 1 (Nat.le_of_ble_eq_true rfl) (hts _ q650) (fun _ h => h) rfl dX8_next_55 ?_
          refine lv_iconst (v := 1) hx hb dX8_next_58 (by decide) ?_
          refine zr_iaddN s_1 1 hx hb dX8_next_59 ?_
          refine va_put (D := G.1) (ci := 8) (v := .int (nI (s_1 + 1))) (ty := .int) (C := RX8) (T := TX8) (N := 8) hx hb hts in_X8 tyX8 tyX8_ok nmX8 hown hK.1 hP hD hS 0 rfl rfl 1 (Nat.le_of_ble_eq_true rfl) (hts _ q650) (fun _ h => h) rfl (tyX8_ok 1 (Nat.le_of_ble_eq_true rfl)) rfl rfl (Nat.le_of_ble_eq_true rfl) dX8_next_60 (fun H locs hP hD hS => ?_)
          have hP : va_P G.1 zcl (rW_ G rA (nI rz) (nI (s_1 + 1)) (nI rb) r_sort r_number r_steps r_picture xA xa_trays xa_tape x_taped x_faultKind x_faultAt xa_bad xa_refused x_status x_above x_under nA xa_marks x_markMany xa_pictures x_lead x_round xa_ways x_bestSet x_bestMany x_left xa_aside xa_last x_hasLived xtape b_v0 b_v1 b_v2 b_v3 b_v4 b_v5 b_kind b_place) H := hP
          have hD : va_D A (rW_ G rA (nI rz) (nI (s_1 + 1)) (nI rb) r_sort r_number r_steps r_picture xA xa_trays xa_tape x_taped x_faultKind x_faultAt xa_bad xa_refused x_status x_above x_under nA xa_marks x_markMany xa_pictures x_lead x_round xa_ways x_bestSet x_bestMany x_left xa_aside xa_last x_hasLived xtape b_v0 b_v1 b_v2 b_v3 b_v4 b_v5 b_kind b_place) := hD
          refine lv_goto (tgt := 8) hx hb dX8_next_63 (by decide) ?_
          exact ih_1 (s_1 + 1) (by omega) ((zw_l (by rw [rf_next_B8, if_neg c_2, if_pos c_3])).symm.trans hR_1) (by omega) H locs hP hD hS ls (lv_sub hl [0] rfl)
        · refine lv_aload_n hx hb dX8_next_36 rfl (lv_at hl 0 rfl) ?_
          refine va_get (D := G.1) (ci := 8) (v := .ref xA) (C := RX8) (T := TX8) (N := 8) hx hb hts in_X8 hown hK.1 hP 0 rfl rfl 7 (Nat.le_of_ble_eq_true rfl) (hts _ q658) (fun _ h => h) rfl dX8_next_37 ?_
          refine va_getN (D := G.1) (ci := 0) (v := .ref xa_tape) (C := RX0) (T := TX0) (N := 23) hx hb hts in_X0 hown hK.1 hP 1 rfl rfl 1 (Nat.le_of_ble_eq_true rfl) ((hK.2.1.1 _ (List.mem_of_getElem? (i := 52) rfl)).use rfl) (fun _ h => h) rfl dX8_next_40 ?_
          refine lv_aload_n hx hb dX8_next_43 rfl (lv_at hl 0 rfl) ?_
          refine va_get (D := G.1) (ci := 8) (v := .int (nI s_1)) (C := RX8) (T := TX8) (N := 8) hx hb hts in_X8 hown hK.1 hP 0 rfl rfl 1 (Nat.le_of_ble_eq_true rfl) (hts _ q650) (fun _ h => h) rfl dX8_next_44 ?_
          refine zr_bald s_1 (v := xtape s_1) hx hb hK hP 2 rfl rfl (Nat.le_of_ble_eq_true rfl) rfl (by omega) rfl dX8_next_47 ?_
          refine lv_bipush (v := 32) hx hb dX8_next_48 (by decide) ?_
          refine lv_icmp_ne (tgt := 66) hx hb dX8_next_50 (by decide) (fun c_4 => ?_) (fun c_4 => ?_)
          · exact hx_1 s_1 (hR_1.symm.trans (zw_r (by rw [rf_next_B8, if_neg c_2, if_neg c_3, if_neg c_4]))) hi0 H locs hP hD hS ls (lv_sub hl [0] rfl)
          · refine lv_aload_n hx hb dX8_next_53 rfl (lv_at hl 0 rfl) ?_
            refine lv_dup hx hb dX8_next_54 rfl ?_
            refine va_get (D := G.1) (ci := 8) (v := .int (nI s_1)) (C := RX8) (T := TX8) (N := 8) hx hb hts in_X8 hown hK.1 hP 0 rfl rfl 1 (Nat.le_of_ble_eq_true rfl) (hts _ q650) (fun _ h => h) rfl dX8_next_55 ?_
            refine lv_iconst (v := 1) hx hb dX8_next_58 (by decide) ?_
            refine zr_iaddN s_1 1 hx hb dX8_next_59 ?_
            refine va_put (D := G.1) (ci := 8) (v := .int (nI (s_1 + 1))) (ty := .int) (C := RX8) (T := TX8) (N := 8) hx hb hts in_X8 tyX8 tyX8_ok nmX8 hown hK.1 hP hD hS 0 rfl rfl 1 (Nat.le_of_ble_eq_true rfl) (hts _ q650) (fun _ h => h) rfl (tyX8_ok 1 (Nat.le_of_ble_eq_true rfl)) rfl rfl (Nat.le_of_ble_eq_true rfl) dX8_next_60 (fun H locs hP hD hS => ?_)
            have hP : va_P G.1 zcl (rW_ G rA (nI rz) (nI (s_1 + 1)) (nI rb) r_sort r_number r_steps r_picture xA xa_trays xa_tape x_taped x_faultKind x_faultAt xa_bad xa_refused x_status x_above x_under nA xa_marks x_markMany xa_pictures x_lead x_round xa_ways x_bestSet x_bestMany x_left xa_aside xa_last x_hasLived xtape b_v0 b_v1 b_v2 b_v3 b_v4 b_v5 b_kind b_place) H := hP
            have hD : va_D A (rW_ G rA (nI rz) (nI (s_1 + 1)) (nI rb) r_sort r_number r_steps r_picture xA xa_trays xa_tape x_taped x_faultKind x_faultAt xa_bad xa_refused x_status x_above x_under nA xa_marks x_markMany xa_pictures x_lead x_round xa_ways x_bestSet x_bestMany x_left xa_aside xa_last x_hasLived xtape b_v0 b_v1 b_v2 b_v3 b_v4 b_v5 b_kind b_place) := hD
            refine lv_goto (tgt := 8) hx hb dX8_next_63 (by decide) ?_
            exact ih_1 (s_1 + 1) (by omega) ((zw_l (by rw [rf_next_B8, if_neg c_2, if_neg c_3, if_pos c_4])).symm.trans hR_1) (by omega) H locs hP hD hS ls (lv_sub hl [0] rfl)
  exact hlp_1 _ rb (Nat.lt_succ_self _) (by rw [rf_next_L8]) (by omega) H locs hP hD hS ls (lv_sub hl [0] rfl)
