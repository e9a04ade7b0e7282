def rf_acts (ra : Nat) (rb : Nat) (r_sort : Int32) (xtape : Nat → Int32) : Int32 :=
  (if (rf_isWord ra rb r_sort xtape 0) = true then
    0
  else
    (if (rf_isWord ra rb r_sort xtape 1) = true then
      1
    else
      (if (rf_isWord ra rb r_sort xtape 2) = true then
        2
      else
        (if (rf_isWord ra rb r_sort xtape 3) = true then
          3
        else
          (if (rf_isWord ra rb r_sort xtape 4) = true then
            4
          else
            (if (rf_isWord ra rb r_sort xtape 5) = true then
              5
            else
              (if (rf_isWord ra rb r_sort xtape 6) = true then
                6
              else
                (-1))))))))
theorem hd_X8_acts : yX8_acts.cls = RX8 ∧ yX8_acts.cls ≠ "java/lang/invoke/MethodHandle" ∧ yX8_acts.cls ≠ "java/lang/invoke/VarHandle" ∧ (parseMethodDescriptor yX8_acts.desc).map (fun d => d.parameters.length) = some 0 := by decide +kernel
set_option maxHeartbeats 4000000 in
set_option maxRecDepth 100000 in
theorem mt_rf_acts (l : Launch) (G : zG) (rA : Nat) (rz : Nat) (ra : Nat) (rb : Nat) (r_sort : Int32) (r_number : Int32) (r_steps : Int32) (r_picture : Int32) (xA : Nat) (xa_trays : Nat) (xa_tape : Nat) (x_taped : Int32) (x_faultKind : Int32) (x_faultAt : Int32) (xa_bad : Nat) (xa_refused : Nat) (x_status : Int32) (x_above : Int64) (x_under : Int64) (nA : Nat) (xa_marks : Nat) (x_markMany : Int32) (xa_pictures : Nat) (x_lead : Int32) (x_round : Int32) (xa_ways : Nat) (x_bestSet : Int32) (x_bestMany : Int32) (x_left : Int32) (xa_aside : Nat) (xa_last : Nat) (x_hasLived : Bool) (xtape : Nat → Int32) (b_v0 : Value) (b_v1 : Value) (b_v2 : Value) (b_v3 : Value) (b_v4 : Value) (b_v5 : Value) (b_kind : Int32) (b_place : Int32) (hrz : rz ≤ 900) (hab : ra ≤ rb) (hbz : rb ≤ rz) (hso : r_sort = 0 ∨ ra < rb) : Met l yX8_acts (ws_ yX8_acts cX8_acts 1 (some .int)) (zR 6 0 0) (zPo G [.ref rA] (rW_ G rA (nI rz) (nI ra) (nI rb) r_sort r_number r_steps r_picture xA xa_trays xa_tape x_taped x_faultKind x_faultAt xa_bad xa_refused x_status x_above x_under nA xa_marks x_markMany xa_pictures x_lead x_round xa_ways x_bestSet x_bestMany x_left xa_aside xa_last x_hasLived xtape b_v0 b_v1 b_v2 b_v3 b_v4 b_v5 b_kind b_place)) (k2_QcV (.int (rf_acts ra rb r_sort xtape))) 0 0 (fun _ => False) := by
  refine zr_entO (by decide) (Nat.le_of_ble_eq_true rfl) ?_
  intro p e s m below meth c ⟨hx, hb, hr, hml, hown, hts, hlocks, hnm⟩ ls hl hP hK hE
  have hown : s.vm.findClass RX8 = some m.cls := hown
  have hl : lv_has ls 1 [(0, .ref rA)] := hl
  refine lv_aload_n hx hb dX8_acts_0 rfl (lv_at hl 0 rfl) ?_
  refine va_ldcS hx hb hown (hK.2.2 0 ("WindowHill$Reader", 76, "night") rfl) dX8_acts_1 ?_
  refine zr_obV ⟨hx, hb, hml, hown, hts⟩ (mt_rf_isWord l G rA rz ra rb r_sort r_number r_steps r_picture xA xa_trays xa_tape x_taped x_faultKind x_faultAt xa_bad xa_refused x_status x_above x_under nA xa_marks x_markMany xa_pictures x_lead x_round xa_ways x_bestSet x_bestMany x_left xa_aside xa_last x_hasLived xtape b_v0 b_v1 b_v2 b_v3 b_v4 b_v5 b_kind b_place 0 hrz hab hbz hso (by decide)) (cwV 1 hts (lw_V q685 q687 qs11 q151 q688) rfl rfl rfl hd_X8_isWord ⟨(Nat.le_of_ble_eq_true rfl), (Nat.le_of_ble_eq_true rfl)⟩) hP hK hE 0 8 rfl rfl rfl hl.1 rfl (Nat.le_of_ble_eq_true rfl) dX8_acts_3 ⟨Nat.le_refl _, Nat.le_refl _⟩ ?_
  refine zr_eqB (rf_isWord ra rb r_sort xtape 0) (tgt := 11) hx hb dX8_acts_6 (by decide) (fun c_1 => ?_) (fun c_1 => ?_)
  · refine lv_aload_n hx hb dX8_acts_11 rfl (lv_at hl 0 rfl) ?_
    refine va_ldcS hx hb hown (hK.2.2 1 ("WindowHill$Reader", 78, "turn") rfl) dX8_acts_12 ?_
    refine zr_obV ⟨hx, hb, hml, hown, hts⟩ (mt_rf_isWord l G rA rz ra rb r_sort r_number r_steps r_picture xA xa_trays xa_tape x_taped x_faultKind x_faultAt xa_bad xa_refused x_status x_above x_under nA xa_marks x_markMany xa_pictures x_lead x_round xa_ways x_bestSet x_bestMany x_left xa_aside xa_last x_hasLived xtape b_v0 b_v1 b_v2 b_v3 b_v4 b_v5 b_kind b_place 1 hrz hab hbz hso (by decide)) (cwV 1 hts (lw_V q685 q687 qs11 q151 q688) rfl rfl rfl hd_X8_isWord ⟨(Nat.le_of_ble_eq_true rfl), (Nat.le_of_ble_eq_true rfl)⟩) hP hK hE 0 8 rfl rfl rfl hl.1 rfl (Nat.le_of_ble_eq_true rfl) dX8_acts_14 ⟨Nat.le_refl _, Nat.le_refl _⟩ ?_
    refine zr_eqB (rf_isWord ra rb r_sort xtape 1) (tgt := 22) hx hb dX8_acts_17 (by decide) (fun c_2 => ?_) (fun c_2 => ?_)
    · refine lv_aload_n hx hb dX8_acts_22 rfl (lv_at hl 0 rfl) ?_
      refine va_ldcS hx hb hown (hK.2.2 2 ("WindowHill$Reader", 80, "mayor") rfl) dX8_acts_23 ?_
      refine zr_obV ⟨hx, hb, hml, hown, hts⟩ (mt_rf_isWord l G rA rz ra rb r_sort r_number r_steps r_picture xA xa_trays xa_tape x_taped x_faultKind x_faultAt xa_bad xa_refused x_status x_above x_under nA xa_marks x_markMany xa_pictures x_lead x_round xa_ways x_bestSet x_bestMany x_left xa_aside xa_last x_hasLived xtape b_v0 b_v1 b_v2 b_v3 b_v4 b_v5 b_kind b_place 2 hrz hab hbz hso (by decide)) (cwV 1 hts (lw_V q685 q687 qs11 q151 q688) rfl rfl rfl hd_X8_isWord ⟨(Nat.le_of_ble_eq_true rfl), (Nat.le_of_ble_eq_true rfl)⟩) hP hK hE 0 8 rfl rfl rfl hl.1 rfl (Nat.le_of_ble_eq_true rfl) dX8_acts_25 ⟨Nat.le_refl _, Nat.le_refl _⟩ ?_
      refine zr_eqB (rf_isWord ra rb r_sort xtape 2) (tgt := 33) hx hb dX8_acts_28 (by decide) (fun c_3 => ?_) (fun c_3 => ?_)
      · refine lv_aload_n hx hb dX8_acts_33 rfl (lv_at hl 0 rfl) ?_
        refine va_ldcS hx hb hown (hK.2.2 3 ("WindowHill$Reader", 82, "elect") rfl) dX8_acts_34 ?_
        refine zr_obV ⟨hx, hb, hml, hown, hts⟩ (mt_rf_isWord l G rA rz ra rb r_sort r_number r_steps r_picture xA xa_trays xa_tape x_taped x_faultKind x_faultAt xa_bad xa_refused x_status x_above x_under nA xa_marks x_markMany xa_pictures x_lead x_round xa_ways x_bestSet x_bestMany x_left xa_aside xa_last x_hasLived xtape b_v0 b_v1 b_v2 b_v3 b_v4 b_v5 b_kind b_place 3 hrz hab hbz hso (by decide)) (cwV 1 hts (lw_V q685 q687 qs11 q151 q688) rfl rfl rfl hd_X8_isWord ⟨(Nat.le_of_ble_eq_true rfl), (Nat.le_of_ble_eq_true rfl)⟩) hP hK hE 0 8 rfl rfl rfl hl.1 rfl (Nat.le_of_ble_eq_true rfl) dX8_acts_36 ⟨Nat.le_refl _, Nat.le_refl _⟩ ?_
        refine zr_eqB (rf_isWord ra rb r_sort xtape 3) (tgt := 44) hx hb dX8_acts_39 (by decide) (fun c_4 => ?_) (fun c_4 => ?_)
        · refine lv_aload_n hx hb dX8_acts_44 rfl (lv_at hl 0 rfl) ?_
          refine va_ldcS hx hb hown (hK.2.2 4 ("WindowHill$Reader", 84, "storm") rfl) dX8_acts_45 ?_
          refine zr_obV ⟨hx, hb, hml, hown, hts⟩ (mt_rf_isWord l G rA rz ra rb r_sort r_number r_steps r_picture xA xa_trays xa_tape x_taped x_faultKind x_faultAt xa_bad xa_refused x_status x_above x_under nA xa_marks x_markMany xa_pictures x_lead x_round xa_ways x_bestSet x_bestMany x_left xa_aside xa_last x_hasLived xtape b_v0 b_v1 b_v2 b_v3 b_v4 b_v5 b_kind b_place 4 hrz hab hbz hso (by decide)) (cwV 1 hts (lw_V q685 q687 qs11 q151 q688) rfl rfl rfl hd_X8_isWord ⟨(Nat.le_of_ble_eq_true rfl), (Nat.le_of_ble_eq_true rfl)⟩) hP hK hE 0 8 rfl rfl rfl hl.1 rfl (Nat.le_of_ble_eq_true rfl) dX8_acts_47 ⟨Nat.le_refl _, Nat.le_refl _⟩ ?_
          refine zr_eqB (rf_isWord ra rb r_sort xtape 4) (tgt := 55) hx hb dX8_acts_50 (by decide) (fun c_5 => ?_) (fun c_5 => ?_)
          · refine lv_aload_n hx hb dX8_acts_55 rfl (lv_at hl 0 rfl) ?_
            refine va_ldcS hx hb hown (hK.2.2 5 ("WindowHill$Reader", 86, "birth") rfl) dX8_acts_56 ?_
            refine zr_obV ⟨hx, hb, hml, hown, hts⟩ (mt_rf_isWord l G rA rz ra rb r_sort r_number r_steps r_picture xA xa_trays xa_tape x_taped x_faultKind x_faultAt xa_bad xa_refused x_status x_above x_under nA xa_marks x_markMany xa_pictures x_lead x_round xa_ways x_bestSet x_bestMany x_left xa_aside xa_last x_hasLived xtape b_v0 b_v1 b_v2 b_v3 b_v4 b_v5 b_kind b_place 5 hrz hab hbz hso (by decide)) (cwV 1 hts (lw_V q685 q687 qs11 q151 q688) rfl rfl rfl hd_X8_isWord ⟨(Nat.le_of_ble_eq_true rfl), (Nat.le_of_ble_eq_true rfl)⟩) hP hK hE 0 8 rfl rfl rfl hl.1 rfl (Nat.le_of_ble_eq_true rfl) dX8_acts_58 ⟨Nat.le_refl _, Nat.le_refl _⟩ ?_
            refine zr_eqB (rf_isWord ra rb r_sort xtape 5) (tgt := 66) hx hb dX8_acts_61 (by decide) (fun c_6 => ?_) (fun c_6 => ?_)
            · refine lv_aload_n hx hb dX8_acts_66 rfl (lv_at hl 0 rfl) ?_
              refine va_ldcS hx hb hown (hK.2.2 6 ("WindowHill$Reader", 88, "stop") rfl) dX8_acts_67 ?_
              refine zr_obV ⟨hx, hb, hml, hown, hts⟩ (mt_rf_isWord l G rA rz ra rb r_sort r_number r_steps r_picture xA xa_trays xa_tape x_taped x_faultKind x_faultAt xa_bad xa_refused x_status x_above x_under nA xa_marks x_markMany xa_pictures x_lead x_round xa_ways x_bestSet x_bestMany x_left xa_aside xa_last x_hasLived xtape b_v0 b_v1 b_v2 b_v3 b_v4 b_v5 b_kind b_place 6 hrz hab hbz hso (by decide)) (cwV 1 hts (lw_V q685 q687 qs11 q151 q688) rfl rfl rfl hd_X8_isWord ⟨(Nat.le_of_ble_eq_true rfl), (Nat.le_of_ble_eq_true rfl)⟩) hP hK hE 0 8 rfl rfl rfl hl.1 rfl (Nat.le_of_ble_eq_true rfl) dX8_acts_69 ⟨Nat.le_refl _, Nat.le_refl _⟩ ?_
              refine zr_eqB (rf_isWord ra rb r_sort xtape 6) (tgt := 80) hx hb dX8_acts_72 (by decide) (fun c_7 => ?_) (fun c_7 => ?_)
              · refine lv_iconst (v := (-1)) hx hb dX8_acts_80 (by decide) ?_
                have e_ : rf_acts ra rb r_sort xtape = (-1) := by rw [rf_acts, if_neg c_1, if_neg c_2, if_neg c_3, if_neg c_4, if_neg c_5, if_neg c_6, if_neg c_7]
                exact zr_oi hx hb hr hlocks dX8_acts_81 (congrArg Value.int e_)
              · refine lv_bipush (v := 6) hx hb dX8_acts_75 (by decide) ?_
                refine lv_goto (tgt := 81) hx hb dX8_acts_77 (by decide) ?_
                have e_ : rf_acts ra rb r_sort xtape = 6 := by rw [rf_acts, if_neg c_1, if_neg c_2, if_neg c_3, if_neg c_4, if_neg c_5, if_neg c_6, if_pos c_7]
                exact zr_oi hx hb hr hlocks dX8_acts_81 (congrArg Value.int e_)
            · refine lv_iconst (v := 5) hx hb dX8_acts_64 (by decide) ?_
              have e_ : rf_acts ra rb r_sort xtape = 5 := by rw [rf_acts, if_neg c_1, if_neg c_2, if_neg c_3, if_neg c_4, if_neg c_5, if_pos c_6]
              exact zr_oi hx hb hr hlocks dX8_acts_65 (congrArg Value.int e_)
          · refine lv_iconst (v := 4) hx hb dX8_acts_53 (by decide) ?_
            have e_ : rf_acts ra rb r_sort xtape = 4 := by rw [rf_acts, if_neg c_1, if_neg c_2, if_neg c_3, if_neg c_4, if_pos c_5]
            exact zr_oi hx hb hr hlocks dX8_acts_54 (congrArg Value.int e_)
        · refine lv_iconst (v := 3) hx hb dX8_acts_42 (by decide) ?_
          have e_ : rf_acts ra rb r_sort xtape = 3 := by rw [rf_acts, if_neg c_1, if_neg c_2, if_neg c_3, if_pos c_4]
          exact zr_oi hx hb hr hlocks dX8_acts_43 (congrArg Value.int e_)
      · refine lv_iconst (v := 2) hx hb dX8_acts_31 (by decide) ?_
        have e_ : rf_acts ra rb r_sort xtape = 2 := by rw [rf_acts, if_neg c_1, if_neg c_2, if_pos c_3]
        exact zr_oi hx hb hr hlocks dX8_acts_32 (congrArg Value.int e_)
    · refine lv_iconst (v := 1) hx hb dX8_acts_20 (by decide) ?_
      have e_ : rf_acts ra rb r_sort xtape = 1 := by rw [rf_acts, if_neg c_1, if_pos c_2]
      exact zr_oi hx hb hr hlocks dX8_acts_21 (congrArg Value.int e_)
  · refine lv_iconst (v := 0) hx hb dX8_acts_9 (by decide) ?_
    have e_ : rf_acts ra rb r_sort xtape = 0 := by rw [rf_acts, if_pos c_1]
    exact zr_oi hx hb hr hlocks dX8_acts_10 (congrArg Value.int e_)
def rf_tests (ra : Nat) (rb : Nat) (r_sort : Int32) (xtape : Nat → Int32) : Int32 :=
  (if (rf_isWord ra rb r_sort xtape 7) = true then
    0
  else
    (if (rf_isWord ra rb r_sort xtape 8) = true then
      1
    else
      (if (rf_isWord ra rb r_sort xtape 9) = true then
        2
      else
        (-1))))
theorem hd_X8_tests : yX8_tests.cls = RX8 ∧ yX8_tests.cls ≠ "java/lang/invoke/MethodHandle" ∧ yX8_tests.cls ≠ "java/lang/invoke/VarHandle" ∧ (parseMethodDescriptor yX8_tests.desc).map (fun d => d.parameters.length) = some 0 := by decide +kernel
set_option maxHeartbeats 4000000 in
set_option maxRecDepth 100000 in
theorem mt_rf_tests (l : Launch) (G : zG) (rA : Nat) (rz : Nat) (ra : Nat) (rb : Nat) (r_sort : Int32) (r_number : Int32) (r_steps : Int32) (r_picture : Int32) (xA : Nat) (xa_trays : Nat) (xa_tape : Nat) (x_taped : Int32) (x_faultKind : Int32) (x_faultAt : Int32) (xa_bad : Nat) (xa_refused : Nat) (x_status : Int32) (x_above : Int64) (x_under : Int64) (nA : Nat) (xa_marks : Nat) (x_markMany : Int32) (xa_pictures : Nat) (x_lead : Int32) (x_round : Int32) (xa_ways : Nat) (x_bestSet : Int32) (x_bestMany : Int32) (x_left : Int32) (xa_aside : Nat) (xa_last : Nat) (x_hasLived : Bool) (xtape : Nat → Int32) (b_v0 : Value) (b_v1 : Value) (b_v2 : Value) (b_v3 : Value) (b_v4 : Value) (b_v5 : Value) (b_kind : Int32) (b_place : Int32) (hrz : rz ≤ 900) (hab : ra ≤ rb) (hbz : rb ≤ rz) (hso : r_sort = 0 ∨ ra < rb) : Met l yX8_tests (ws_ yX8_tests cX8_tests 1 (some .int)) (zR 6 0 0) (zPo G [.ref rA] (rW_ G rA (nI rz) (nI ra) (nI rb) r_sort r_number r_steps r_picture xA xa_trays xa_tape x_taped x_faultKind x_faultAt xa_bad xa_refused x_status x_above x_under nA xa_marks x_markMany xa_pictures x_lead x_round xa_ways x_bestSet x_bestMany x_left xa_aside xa_last x_hasLived xtape b_v0 b_v1 b_v2 b_v3 b_v4 b_v5 b_kind b_place)) (k2_QcV (.int (rf_tests ra rb r_sort xtape))) 0 0 (fun _ => False) := by
  refine zr_entO (by decide) (Nat.le_of_ble_eq_true rfl) ?_
  intro p e s m below meth c ⟨hx, hb, hr, hml, hown, hts, hlocks, hnm⟩ ls hl hP hK hE
  have hown : s.vm.findClass RX8 = some m.cls := hown
  have hl : lv_has ls 1 [(0, .ref rA)] := hl
  refine lv_aload_n hx hb dX8_tests_0 rfl (lv_at hl 0 rfl) ?_
  refine va_ldcS hx hb hown (hK.2.2 7 ("WindowHill$Reader", 90, "lit") rfl) dX8_tests_1 ?_
  refine zr_obV ⟨hx, hb, hml, hown, hts⟩ (mt_rf_isWord l G rA rz ra rb r_sort r_number r_steps r_picture xA xa_trays xa_tape x_taped x_faultKind x_faultAt xa_bad xa_refused x_status x_above x_under nA xa_marks x_markMany xa_pictures x_lead x_round xa_ways x_bestSet x_bestMany x_left xa_aside xa_last x_hasLived xtape b_v0 b_v1 b_v2 b_v3 b_v4 b_v5 b_kind b_place 7 hrz hab hbz hso (by decide)) (cwV 1 hts (lw_V q685 q687 qs11 q151 q688) rfl rfl rfl hd_X8_isWord ⟨(Nat.le_of_ble_eq_true rfl), (Nat.le_of_ble_eq_true rfl)⟩) hP hK hE 0 8 rfl rfl rfl hl.1 rfl (Nat.le_of_ble_eq_true rfl) dX8_tests_3 ⟨Nat.le_refl _, Nat.le_refl _⟩ ?_
  refine zr_eqB (rf_isWord ra rb r_sort xtape 7) (tgt := 13) hx hb dX8_tests_6 (by decide) (fun c_1 => ?_) (fun c_1 => ?_)
  · refine lv_aload_n hx hb dX8_tests_13 rfl (lv_at hl 0 rfl) ?_
    refine va_ldcS hx hb hown (hK.2.2 8 ("WindowHill$Reader", 92, "lamp") rfl) dX8_tests_14 ?_
    refine zr_obV ⟨hx, hb, hml, hown, hts⟩ (mt_rf_isWord l G rA rz ra rb r_sort r_number r_steps r_picture xA xa_trays xa_tape x_taped x_faultKind x_faultAt xa_bad xa_refused x_status x_above x_under nA xa_marks x_markMany xa_pictures x_lead x_round xa_ways x_bestSet x_bestMany x_left xa_aside xa_last x_hasLived xtape b_v0 b_v1 b_v2 b_v3 b_v4 b_v5 b_kind b_place 8 hrz hab hbz hso (by decide)) (cwV 1 hts (lw_V q685 q687 qs11 q151 q688) rfl rfl rfl hd_X8_isWord ⟨(Nat.le_of_ble_eq_true rfl), (Nat.le_of_ble_eq_true rfl)⟩) hP hK hE 0 8 rfl rfl rfl hl.1 rfl (Nat.le_of_ble_eq_true rfl) dX8_tests_16 ⟨Nat.le_refl _, Nat.le_refl _⟩ ?_
    refine zr_eqB (rf_isWord ra rb r_sort xtape 8) (tgt := 26) hx hb dX8_tests_19 (by decide) (fun c_2 => ?_) (fun c_2 => ?_)
    · refine lv_aload_n hx hb dX8_tests_26 rfl (lv_at hl 0 rfl) ?_
      refine va_ldcS hx hb hown (hK.2.2 9 ("WindowHill$Reader", 94, "same") rfl) dX8_tests_27 ?_
      refine zr_obV ⟨hx, hb, hml, hown, hts⟩ (mt_rf_isWord l G rA rz ra rb r_sort r_number r_steps r_picture xA xa_trays xa_tape x_taped x_faultKind x_faultAt xa_bad xa_refused x_status x_above x_under nA xa_marks x_markMany xa_pictures x_lead x_round xa_ways x_bestSet x_bestMany x_left xa_aside xa_last x_hasLived xtape b_v0 b_v1 b_v2 b_v3 b_v4 b_v5 b_kind b_place 9 hrz hab hbz hso (by decide)) (cwV 1 hts (lw_V q685 q687 qs11 q151 q688) rfl rfl rfl hd_X8_isWord ⟨(Nat.le_of_ble_eq_true rfl), (Nat.le_of_ble_eq_true rfl)⟩) hP hK hE 0 8 rfl rfl rfl hl.1 rfl (Nat.le_of_ble_eq_true rfl) dX8_tests_29 ⟨Nat.le_refl _, Nat.le_refl _⟩ ?_
      refine zr_eqB (rf_isWord ra rb r_sort xtape 9) (tgt := 39) hx hb dX8_tests_32 (by decide) (fun c_3 => ?_) (fun c_3 => ?_)
      · refine lv_iconst (v := (-1)) hx hb dX8_tests_39 (by decide) ?_
        have e_ : rf_tests ra rb r_sort xtape = (-1) := by rw [rf_tests, if_neg c_1, if_neg c_2, if_neg c_3]
        exact zr_oi hx hb hr hlocks dX8_tests_40 (congrArg Value.int e_)
      · refine lv_iconst (v := 2) hx hb dX8_tests_35 (by decide) ?_
        refine lv_goto (tgt := 40) hx hb dX8_tests_36 (by decide) ?_
        have e_ : rf_tests ra rb r_sort xtape = 2 := by rw [rf_tests, if_neg c_1, if_neg c_2, if_pos c_3]
        exact zr_oi hx hb hr hlocks dX8_tests_40 (congrArg Value.int e_)
    · refine lv_iconst (v := 1) hx hb dX8_tests_22 (by decide) ?_
      refine lv_goto (tgt := 40) hx hb dX8_tests_23 (by decide) ?_
      have e_ : rf_tests ra rb r_sort xtape = 1 := by rw [rf_tests, if_neg c_1, if_pos c_2]
      exact zr_oi hx hb hr hlocks dX8_tests_40 (congrArg Value.int e_)
  · refine lv_iconst (v := 0) hx hb dX8_tests_9 (by decide) ?_
    refine lv_goto (tgt := 40) hx hb dX8_tests_10 (by decide) ?_
    have e_ : rf_tests ra rb r_sort xtape = 0 := by rw [rf_tests, if_pos c_1]
    exact zr_oi hx hb hr hlocks dX8_tests_40 (congrArg Value.int e_)
