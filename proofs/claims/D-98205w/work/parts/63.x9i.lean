def rf_isKept_V0 (ra : Nat) (rb : Nat) (r_sort : Int32) (xtape : Nat → Int32) : Bool :=
  (if (rf_isWord ra rb r_sort xtape 10) = true then
    true
  else
    (if (rf_isWord ra rb r_sort xtape 11) = true then
      true
    else
      (if (rf_isWord ra rb r_sort xtape 12) = true then
        true
      else
        (if (rf_isWord ra rb r_sort xtape 13) = true then
          true
        else
          (if (rf_isWord ra rb r_sort xtape 14) = true then
            true
          else
            (if (rf_isWord ra rb r_sort xtape 15) = true then
              true
            else
              (if (rf_isWord ra rb r_sort xtape 16) = true then
                true
              else
                (if (rf_isWord ra rb r_sort xtape 17) = true then
                  true
                else
                  (if (rf_isWord ra rb r_sort xtape 18) = true then
                    true
                  else
                    false)))))))))
def rf_isKept (ra : Nat) (rb : Nat) (r_sort : Int32) (xtape : Nat → Int32) : Bool :=
  zlet (rf_isKept_V0 ra rb r_sort xtape) (fun z_1 =>
  (if z_1 = true then
    true
  else
    (if 0 ≤ (rf_acts ra rb r_sort xtape) then
      true
    else
      (if 0 ≤ (rf_tests ra rb r_sort xtape) then
        true
      else
        (if (rf_isWord ra rb r_sort xtape 19) = true then
          true
        else
          (if (rf_isWord ra rb r_sort xtape 20) = true then
            true
          else
            (if (rf_isWord ra rb r_sort xtape 21) = true then
              true
            else
              false)))))))
theorem hd_X8_isKept : yX8_isKept.cls = RX8 ∧ yX8_isKept.cls ≠ "java/lang/invoke/MethodHandle" ∧ yX8_isKept.cls ≠ "java/lang/invoke/VarHandle" ∧ (parseMethodDescriptor yX8_isKept.desc).map (fun d => d.parameters.length) = some 0 := by decide +kernel
set_option maxHeartbeats 4000000 in
set_option maxRecDepth 100000 in
theorem mt_rf_isKept (l : Launch) (G : zG) (rA : Nat) (rz : Nat) (ra : Nat) (rb : Nat) (r_sort : Int32) (r_number : Int32) (r_steps : Int32) (r_picture : Int32) (xA : Nat) (xa_trays : Nat) (xa_tape : Nat) (x_taped : Int32) (x_faultKind : Int32) (x_faultAt : Int32) (xa_bad : Nat) (xa_refused : Nat) (x_status : Int32) (x_above : Int64) (x_under : Int64) (nA : Nat) (xa_marks : Nat) (x_markMany : Int32) (xa_pictures : Nat) (x_lead : Int32) (x_round : Int32) (xa_ways : Nat) (x_bestSet : Int32) (x_bestMany : Int32) (x_left : Int32) (xa_aside : Nat) (xa_last : Nat) (x_hasLived : Bool) (xtape : Nat → Int32) (b_v0 : Value) (b_v1 : Value) (b_v2 : Value) (b_v3 : Value) (b_v4 : Value) (b_v5 : Value) (b_kind : Int32) (b_place : Int32) (hrz : rz ≤ 900) (hab : ra ≤ rb) (hbz : rb ≤ rz) (hso : r_sort = 0 ∨ ra < rb) : Met l yX8_isKept (ws_ yX8_isKept cX8_isKept 2 (some .boolean)) (zR 7 0 0) (zPo G [.ref rA] (rW_ G rA (nI rz) (nI ra) (nI rb) r_sort r_number r_steps r_picture xA xa_trays xa_tape x_taped x_faultKind x_faultAt xa_bad xa_refused x_status x_above x_under nA xa_marks x_markMany xa_pictures x_lead x_round xa_ways x_bestSet x_bestMany x_left xa_aside xa_last x_hasLived xtape b_v0 b_v1 b_v2 b_v3 b_v4 b_v5 b_kind b_place)) (k2_QcV (.int (zb (rf_isKept ra rb r_sort xtape)))) 0 0 (fun _ => False) := by
  refine zr_entO (by decide) (Nat.le_of_ble_eq_true rfl) ?_
  intro p e s m below meth c ⟨hx, hb, hr, hml, hown, hts, hlocks, hnm⟩ ls hl hP hK hE
  have hown : s.vm.findClass RX8 = some m.cls := hown
  have hl : lv_has ls 2 [(0, .ref rA)] := hl
  have JV_1 : ∀ z_1 : Bool, rf_isKept_V0 ra rb r_sort xtape = z_1 → ∀ ls : Array Slot, lv_has ls 2 [(0, .ref rA)] → W p l e (zR 7 0 0) s m ([.ref rA] : List Value).toArray below meth c s.heap [] 0 0 (MQ below (k2_QcV (.int (zb (rf_isKept ra rb r_sort xtape)))) ([.ref rA] : List Value).toArray s 0 0 (fun _ => False)) (F0 m 86 ls [.int (zb z_1)]) := by
    intro z_1 hz_1 ls hl
    refine lv_istore_n (lv' := [(1, .int (zb z_1)), (0, .ref rA)]) hx hb dX8_isKept_86 rfl hl (by decide) rfl (fun ls hl => ?_)
    refine lv_iload_n hx hb dX8_isKept_87 rfl (lv_at hl 0 rfl) ?_
    refine zr_neB z_1 (tgt := 132) hx hb dX8_isKept_88 (by decide) (fun c_11 => ?_) (fun c_11 => ?_)
    · refine lv_iconst (v := 1) hx hb dX8_isKept_132 (by decide) ?_
      refine lv_goto (tgt := 137) hx hb dX8_isKept_133 (by decide) ?_
      have e_ : rf_isKept ra rb r_sort xtape = true := by rw [rf_isKept, zlet_eq hz_1, if_pos c_11]
      exact zr_oz hx hb hr hlocks dX8_isKept_137 rfl (congrArg (fun z => Value.int (zb z)) e_)
    · refine lv_aload_n hx hb dX8_isKept_91 rfl (lv_at hl 1 rfl) ?_
      refine zr_obV ⟨hx, hb, hml, hown, hts⟩ (mt_rf_acts l G rA rz ra rb r_sort r_number r_steps r_picture xA xa_trays xa_tape x_taped x_faultKind x_faultAt xa_bad xa_refused x_status x_above x_under nA xa_marks x_markMany xa_pictures x_lead x_round xa_ways x_bestSet x_bestMany x_left xa_aside xa_last x_hasLived xtape b_v0 b_v1 b_v2 b_v3 b_v4 b_v5 b_kind b_place hrz hab hbz hso) (cwV 0 hts (lw_V q789 q791 qs21 q151 q792) rfl rfl rfl hd_X8_acts ⟨(Nat.le_of_ble_eq_true rfl), (Nat.le_of_ble_eq_true rfl)⟩) hP hK hE 0 8 rfl rfl rfl hl.1 rfl (Nat.le_of_ble_eq_true rfl) dX8_isKept_92 ⟨Nat.le_refl _, Nat.le_refl _⟩ ?_
      refine lv_if_ge (tgt := 132) hx hb dX8_isKept_95 (by decide) (fun c_12 => ?_) (fun c_12 => ?_)
      · refine lv_iconst (v := 1) hx hb dX8_isKept_132 (by decide) ?_
        refine lv_goto (tgt := 137) hx hb dX8_isKept_133 (by decide) ?_
        have e_ : rf_isKept ra rb r_sort xtape = true := by rw [rf_isKept, zlet_eq hz_1, if_neg c_11, if_pos c_12]
        exact zr_oz hx hb hr hlocks dX8_isKept_137 rfl (congrArg (fun z => Value.int (zb z)) e_)
      · refine lv_aload_n hx hb dX8_isKept_98 rfl (lv_at hl 1 rfl) ?_
        refine zr_obV ⟨hx, hb, hml, hown, hts⟩ (mt_rf_tests l G rA rz ra rb r_sort r_number r_steps r_picture xA xa_trays xa_tape x_taped x_faultKind x_faultAt xa_bad xa_refused x_status x_above x_under nA xa_marks x_markMany xa_pictures x_lead x_round xa_ways x_bestSet x_bestMany x_left xa_aside xa_last x_hasLived xtape b_v0 b_v1 b_v2 b_v3 b_v4 b_v5 b_kind b_place hrz hab hbz hso) (cwV 0 hts (lw_V q800 q802 qs22 q151 q803) rfl rfl rfl hd_X8_tests ⟨(Nat.le_of_ble_eq_true rfl), (Nat.le_of_ble_eq_true rfl)⟩) hP hK hE 0 8 rfl rfl rfl hl.1 rfl (Nat.le_of_ble_eq_true rfl) dX8_isKept_99 ⟨Nat.le_refl _, Nat.le_refl _⟩ ?_
        refine lv_if_ge (tgt := 132) hx hb dX8_isKept_102 (by decide) (fun c_13 => ?_) (fun c_13 => ?_)
        · refine lv_iconst (v := 1) hx hb dX8_isKept_132 (by decide) ?_
          refine lv_goto (tgt := 137) hx hb dX8_isKept_133 (by decide) ?_
          have e_ : rf_isKept ra rb r_sort xtape = true := by rw [rf_isKept, zlet_eq hz_1, if_neg c_11, if_neg c_12, if_pos c_13]
          exact zr_oz hx hb hr hlocks dX8_isKept_137 rfl (congrArg (fun z => Value.int (zb z)) e_)
        · refine lv_aload_n hx hb dX8_isKept_105 rfl (lv_at hl 1 rfl) ?_
          refine va_ldcS hx hb hown (hK.2.2 19 ("WindowHill$Reader", 120, "when") rfl) dX8_isKept_106 ?_
          refine zr_obV ⟨hx, hb, hml, hown, hts⟩ (mt_rf_isWord l G rA rz ra rb r_sort r_number r_steps r_picture xA xa_trays xa_tape x_taped x_faultKind x_faultAt xa_bad xa_refused x_status x_above x_under nA xa_marks x_markMany xa_pictures x_lead x_round xa_ways x_bestSet x_bestMany x_left xa_aside xa_last x_hasLived xtape b_v0 b_v1 b_v2 b_v3 b_v4 b_v5 b_kind b_place 19 hrz hab hbz hso (by decide)) (cwV 1 hts (lw_V q685 q687 qs11 q151 q688) rfl rfl rfl hd_X8_isWord ⟨(Nat.le_of_ble_eq_true rfl), (Nat.le_of_ble_eq_true rfl)⟩) hP hK hE 0 8 rfl rfl rfl hl.1 rfl (Nat.le_of_ble_eq_true rfl) dX8_isKept_108 ⟨Nat.le_refl _, Nat.le_refl _⟩ ?_
          refine zr_neB (rf_isWord ra rb r_sort xtape 19) (tgt := 132) hx hb dX8_isKept_111 (by decide) (fun c_14 => ?_) (fun c_14 => ?_)
          · refine lv_iconst (v := 1) hx hb dX8_isKept_132 (by decide) ?_
            refine lv_goto (tgt := 137) hx hb dX8_isKept_133 (by decide) ?_
            have e_ : rf_isKept ra rb r_sort xtape = true := by rw [rf_isKept, zlet_eq hz_1, if_neg c_11, if_neg c_12, if_neg c_13, if_pos c_14]
            exact zr_oz hx hb hr hlocks dX8_isKept_137 rfl (congrArg (fun z => Value.int (zb z)) e_)
          · refine lv_aload_n hx hb dX8_isKept_114 rfl (lv_at hl 1 rfl) ?_
            refine va_ldcS hx hb hown (hK.2.2 20 ("WindowHill$Reader", 122, "loop") rfl) dX8_isKept_115 ?_
            refine zr_obV ⟨hx, hb, hml, hown, hts⟩ (mt_rf_isWord l G rA rz ra rb r_sort r_number r_steps r_picture xA xa_trays xa_tape x_taped x_faultKind x_faultAt xa_bad xa_refused x_status x_above x_under nA xa_marks x_markMany xa_pictures x_lead x_round xa_ways x_bestSet x_bestMany x_left xa_aside xa_last x_hasLived xtape b_v0 b_v1 b_v2 b_v3 b_v4 b_v5 b_kind b_place 20 hrz hab hbz hso (by decide)) (cwV 1 hts (lw_V q685 q687 qs11 q151 q688) rfl rfl rfl hd_X8_isWord ⟨(Nat.le_of_ble_eq_true rfl), (Nat.le_of_ble_eq_true rfl)⟩) hP hK hE 0 8 rfl rfl rfl hl.1 rfl (Nat.le_of_ble_eq_true rfl) dX8_isKept_117 ⟨Nat.le_refl _, Nat.le_refl _⟩ ?_
            refine zr_neB (rf_isWord ra rb r_sort xtape 20) (tgt := 132) hx hb dX8_isKept_120 (by decide) (fun c_15 => ?_) (fun c_15 => ?_)
            · refine lv_iconst (v := 1) hx hb dX8_isKept_132 (by decide) ?_
              refine lv_goto (tgt := 137) hx hb dX8_isKept_133 (by decide) ?_
              have e_ : rf_isKept ra rb r_sort xtape = true := by rw [rf_isKept, zlet_eq hz_1, if_neg c_11, if_neg c_12, if_neg c_13, if_neg c_14, if_pos c_15]
              exact zr_oz hx hb hr hlocks dX8_isKept_137 rfl (congrArg (fun z => Value.int (zb z)) e_)
            · refine lv_aload_n hx hb dX8_isKept_123 rfl (lv_at hl 1 rfl) ?_
              refine va_ldcS hx hb hown (hK.2.2 21 ("WindowHill$Reader", 124, "end") rfl) dX8_isKept_124 ?_
              refine zr_obV ⟨hx, hb, hml, hown, hts⟩ (mt_rf_isWord l G rA rz ra rb r_sort r_number r_steps r_picture xA xa_trays xa_tape x_taped x_faultKind x_faultAt xa_bad xa_refused x_status x_above x_under nA xa_marks x_markMany xa_pictures x_lead x_round xa_ways x_bestSet x_bestMany x_left xa_aside xa_last x_hasLived xtape b_v0 b_v1 b_v2 b_v3 b_v4 b_v5 b_kind b_place 21 hrz hab hbz hso (by decide)) (cwV 1 hts (lw_V q685 q687 qs11 q151 q688) rfl rfl rfl hd_X8_isWord ⟨(Nat.le_of_ble_eq_true rfl), (Nat.le_of_ble_eq_true rfl)⟩) hP hK hE 0 8 rfl rfl rfl hl.1 rfl (Nat.le_of_ble_eq_true rfl) dX8_isKept_126 ⟨Nat.le_refl _, Nat.le_refl _⟩ ?_
              refine zr_eqB (rf_isWord ra rb r_sort xtape 21) (tgt := 136) hx hb dX8_isKept_129 (by decide) (fun c_16 => ?_) (fun c_16 => ?_)
              · refine lv_iconst (v := 0) hx hb dX8_isKept_136 (by decide) ?_
                have e_ : rf_isKept ra rb r_sort xtape = false := by rw [rf_isKept, zlet_eq hz_1, if_neg c_11, if_neg c_12, if_neg c_13, if_neg c_14, if_neg c_15, if_neg c_16]
                exact zr_oz hx hb hr hlocks dX8_isKept_137 rfl (congrArg (fun z => Value.int (zb z)) e_)
              · refine lv_iconst (v := 1) hx hb dX8_isKept_132 (by decide) ?_
                refine lv_goto (tgt := 137) hx hb dX8_isKept_133 (by decide) ?_
                have e_ : rf_isKept ra rb r_sort xtape = true := by rw [rf_isKept, zlet_eq hz_1, if_neg c_11, if_neg c_12, if_neg c_13, if_neg c_14, if_neg c_15, if_pos c_16]
                exact zr_oz hx hb hr hlocks dX8_isKept_137 rfl (congrArg (fun z => Value.int (zb z)) e_)
  refine lv_aload_n hx hb dX8_isKept_0 rfl (lv_at hl 0 rfl) ?_
  refine va_ldcS hx hb hown (hK.2.2 10 ("WindowHill$Reader", 96, "wide") rfl) dX8_isKept_1 ?_
  refine zr_obV ⟨hx, hb, hml, hown, hts⟩ (mt_rf_isWord l G rA rz ra rb r_sort r_number r_steps r_picture xA xa_trays xa_tape x_taped x_faultKind x_faultAt xa_bad xa_refused x_status x_above x_under nA xa_marks x_markMany xa_pictures x_lead x_round xa_ways x_bestSet x_bestMany x_left xa_aside xa_last x_hasLived xtape b_v0 b_v1 b_v2 b_v3 b_v4 b_v5 b_kind b_place 10 hrz hab hbz hso (by decide)) (cwV 1 hts (lw_V q685 q687 qs11 q151 q688) rfl rfl rfl hd_X8_isWord ⟨(Nat.le_of_ble_eq_true rfl), (Nat.le_of_ble_eq_true rfl)⟩) hP hK hE 0 8 rfl rfl rfl hl.1 rfl (Nat.le_of_ble_eq_true rfl) dX8_isKept_3 ⟨Nat.le_refl _, Nat.le_refl _⟩ ?_
  refine zr_neB (rf_isWord ra rb r_sort xtape 10) (tgt := 81) hx hb dX8_isKept_6 (by decide) (fun c_2 => ?_) (fun c_2 => ?_)
  · refine lv_iconst (v := 1) hx hb dX8_isKept_81 (by decide) ?_
    refine lv_goto (tgt := 86) hx hb dX8_isKept_82 (by decide) ?_
    exact JV_1 true (by rw [rf_isKept_V0, if_pos c_2]) ls (lv_sub hl [0] rfl)
  · refine lv_aload_n hx hb dX8_isKept_9 rfl (lv_at hl 0 rfl) ?_
    refine va_ldcS hx hb hown (hK.2.2 11 ("WindowHill$Reader", 98, "ring") rfl) dX8_isKept_10 ?_
    refine zr_obV ⟨hx, hb, hml, hown, hts⟩ (mt_rf_isWord l G rA rz ra rb r_sort r_number r_steps r_picture xA xa_trays xa_tape x_taped x_faultKind x_faultAt xa_bad xa_refused x_status x_above x_under nA xa_marks x_markMany xa_pictures x_lead x_round xa_ways x_bestSet x_bestMany x_left xa_aside xa_last x_hasLived xtape b_v0 b_v1 b_v2 b_v3 b_v4 b_v5 b_kind b_place 11 hrz hab hbz hso (by decide)) (cwV 1 hts (lw_V q685 q687 qs11 q151 q688) rfl rfl rfl hd_X8_isWord ⟨(Nat.le_of_ble_eq_true rfl), (Nat.le_of_ble_eq_true rfl)⟩) hP hK hE 0 8 rfl rfl rfl hl.1 rfl (Nat.le_of_ble_eq_true rfl) dX8_isKept_12 ⟨Nat.le_refl _, Nat.le_refl _⟩ ?_
    refine zr_neB (rf_isWord ra rb r_sort xtape 11) (tgt := 81) hx hb dX8_isKept_15 (by decide) (fun c_3 => ?_) (fun c_3 => ?_)
    · refine lv_iconst (v := 1) hx hb dX8_isKept_81 (by decide) ?_
      refine lv_goto (tgt := 86) hx hb dX8_isKept_82 (by decide) ?_
      exact JV_1 true (by rw [rf_isKept_V0, if_neg c_2, if_pos c_3]) ls (lv_sub hl [0] rfl)
    · refine lv_aload_n hx hb dX8_isKept_18 rfl (lv_at hl 0 rfl) ?_
      refine va_ldcS hx hb hown (hK.2.2 12 ("WindowHill$Reader", 100, "row") rfl) dX8_isKept_19 ?_
      refine zr_obV ⟨hx, hb, hml, hown, hts⟩ (mt_rf_isWord l G rA rz ra rb r_sort r_number r_steps r_picture xA xa_trays xa_tape x_taped x_faultKind x_faultAt xa_bad xa_refused x_status x_above x_under nA xa_marks x_markMany xa_pictures x_lead x_round xa_ways x_bestSet x_bestMany x_left xa_aside xa_last x_hasLived xtape b_v0 b_v1 b_v2 b_v3 b_v4 b_v5 b_kind b_place 12 hrz hab hbz hso (by decide)) (cwV 1 hts (lw_V q685 q687 qs11 q151 q688) rfl rfl rfl hd_X8_isWord ⟨(Nat.le_of_ble_eq_true rfl), (Nat.le_of_ble_eq_true rfl)⟩) hP hK hE 0 8 rfl rfl rfl hl.1 rfl (Nat.le_of_ble_eq_true rfl) dX8_isKept_21 ⟨Nat.le_refl _, Nat.le_refl _⟩ ?_
      refine zr_neB (rf_isWord ra rb r_sort xtape 12) (tgt := 81) hx hb dX8_isKept_24 (by decide) (fun c_4 => ?_) (fun c_4 => ?_)
      · refine lv_iconst (v := 1) hx hb dX8_isKept_81 (by decide) ?_
        refine lv_goto (tgt := 86) hx hb dX8_isKept_82 (by decide) ?_
        exact JV_1 true (by rw [rf_isKept_V0, if_neg c_2, if_neg c_3, if_pos c_4]) ls (lv_sub hl [0] rfl)
      · refine lv_aload_n hx hb dX8_isKept_27 rfl (lv_at hl 0 rfl) ?_
        refine va_ldcS hx hb hown (hK.2.2 13 ("WindowHill$Reader", 102, "rule") rfl) dX8_isKept_28 ?_
        refine zr_obV ⟨hx, hb, hml, hown, hts⟩ (mt_rf_isWord l G rA rz ra rb r_sort r_number r_steps r_picture xA xa_trays xa_tape x_taped x_faultKind x_faultAt xa_bad xa_refused x_status x_above x_under nA xa_marks x_markMany xa_pictures x_lead x_round xa_ways x_bestSet x_bestMany x_left xa_aside xa_last x_hasLived xtape b_v0 b_v1 b_v2 b_v3 b_v4 b_v5 b_kind b_place 13 hrz hab hbz hso (by decide)) (cwV 1 hts (lw_V q685 q687 qs11 q151 q688) rfl rfl rfl hd_X8_isWord ⟨(Nat.le_of_ble_eq_true rfl), (Nat.le_of_ble_eq_true rfl)⟩) hP hK hE 0 8 rfl rfl rfl hl.1 rfl (Nat.le_of_ble_eq_true rfl) dX8_isKept_30 ⟨Nat.le_refl _, Nat.le_refl _⟩ ?_
        refine zr_neB (rf_isWord ra rb r_sort xtape 13) (tgt := 81) hx hb dX8_isKept_33 (by decide) (fun c_5 => ?_) (fun c_5 => ?_)
        · refine lv_iconst (v := 1) hx hb dX8_isKept_81 (by decide) ?_
          refine lv_goto (tgt := 86) hx hb dX8_isKept_82 (by decide) ?_
          exact JV_1 true (by rw [rf_isKept_V0, if_neg c_2, if_neg c_3, if_neg c_4, if_pos c_5]) ls (lv_sub hl [0] rfl)
        · refine lv_aload_n hx hb dX8_isKept_36 rfl (lv_at hl 0 rfl) ?_
          refine va_ldcS hx hb hown (hK.2.2 14 ("WindowHill$Reader", 104, "born") rfl) dX8_isKept_37 ?_
          refine zr_obV ⟨hx, hb, hml, hown, hts⟩ (mt_rf_isWord l G rA rz ra rb r_sort r_number r_steps r_picture xA xa_trays xa_tape x_taped x_faultKind x_faultAt xa_bad xa_refused x_status x_above x_under nA xa_marks x_markMany xa_pictures x_lead x_round xa_ways x_bestSet x_bestMany x_left xa_aside xa_last x_hasLived xtape b_v0 b_v1 b_v2 b_v3 b_v4 b_v5 b_kind b_place 14 hrz hab hbz hso (by decide)) (cwV 1 hts (lw_V q685 q687 qs11 q151 q688) rfl rfl rfl hd_X8_isWord ⟨(Nat.le_of_ble_eq_true rfl), (Nat.le_of_ble_eq_true rfl)⟩) hP hK hE 0 8 rfl rfl rfl hl.1 rfl (Nat.le_of_ble_eq_true rfl) dX8_isKept_39 ⟨Nat.le_refl _, Nat.le_refl _⟩ ?_
          refine zr_neB (rf_isWord ra rb r_sort xtape 14) (tgt := 81) hx hb dX8_isKept_42 (by decide) (fun c_6 => ?_) (fun c_6 => ?_)
          · refine lv_iconst (v := 1) hx hb dX8_isKept_81 (by decide) ?_
            refine lv_goto (tgt := 86) hx hb dX8_isKept_82 (by decide) ?_
            exact JV_1 true (by rw [rf_isKept_V0, if_neg c_2, if_neg c_3, if_neg c_4, if_neg c_5, if_pos c_6]) ls (lv_sub hl [0] rfl)
          · refine lv_aload_n hx hb dX8_isKept_45 rfl (lv_at hl 0 rfl) ?_
            refine va_ldcS hx hb hown (hK.2.2 15 ("WindowHill$Reader", 106, "stays") rfl) dX8_isKept_46 ?_
            refine zr_obV ⟨hx, hb, hml, hown, hts⟩ (mt_rf_isWord l G rA rz ra rb r_sort r_number r_steps r_picture xA xa_trays xa_tape x_taped x_faultKind x_faultAt xa_bad xa_refused x_status x_above x_under nA xa_marks x_markMany xa_pictures x_lead x_round xa_ways x_bestSet x_bestMany x_left xa_aside xa_last x_hasLived xtape b_v0 b_v1 b_v2 b_v3 b_v4 b_v5 b_kind b_place 15 hrz hab hbz hso (by decide)) (cwV 1 hts (lw_V q685 q687 qs11 q151 q688) rfl rfl rfl hd_X8_isWord ⟨(Nat.le_of_ble_eq_true rfl), (Nat.le_of_ble_eq_true rfl)⟩) hP hK hE 0 8 rfl rfl rfl hl.1 rfl (Nat.le_of_ble_eq_true rfl) dX8_isKept_48 ⟨Nat.le_refl _, Nat.le_refl _⟩ ?_
            refine zr_neB (rf_isWord ra rb r_sort xtape 15) (tgt := 81) hx hb dX8_isKept_51 (by decide) (fun c_7 => ?_) (fun c_7 => ?_)
            · refine lv_iconst (v := 1) hx hb dX8_isKept_81 (by decide) ?_
              refine lv_goto (tgt := 86) hx hb dX8_isKept_82 (by decide) ?_
              exact JV_1 true (by rw [rf_isKept_V0, if_neg c_2, if_neg c_3, if_neg c_4, if_neg c_5, if_neg c_6, if_pos c_7]) ls (lv_sub hl [0] rfl)
            · refine lv_aload_n hx hb dX8_isKept_54 rfl (lv_at hl 0 rfl) ?_
              refine va_ldcS hx hb hown (hK.2.2 16 ("WindowHill$Reader", 108, "citizen") rfl) dX8_isKept_55 ?_
              refine zr_obV ⟨hx, hb, hml, hown, hts⟩ (mt_rf_isWord l G rA rz ra rb r_sort r_number r_steps r_picture xA xa_trays xa_tape x_taped x_faultKind x_faultAt xa_bad xa_refused x_status x_above x_under nA xa_marks x_markMany xa_pictures x_lead x_round xa_ways x_bestSet x_bestMany x_left xa_aside xa_last x_hasLived xtape b_v0 b_v1 b_v2 b_v3 b_v4 b_v5 b_kind b_place 16 hrz hab hbz hso (by decide)) (cwV 1 hts (lw_V q685 q687 qs11 q151 q688) rfl rfl rfl hd_X8_isWord ⟨(Nat.le_of_ble_eq_true rfl), (Nat.le_of_ble_eq_true rfl)⟩) hP hK hE 0 8 rfl rfl rfl hl.1 rfl (Nat.le_of_ble_eq_true rfl) dX8_isKept_57 ⟨Nat.le_refl _, Nat.le_refl _⟩ ?_
              refine zr_neB (rf_isWord ra rb r_sort xtape 16) (tgt := 81) hx hb dX8_isKept_60 (by decide) (fun c_8 => ?_) (fun c_8 => ?_)
              · refine lv_iconst (v := 1) hx hb dX8_isKept_81 (by decide) ?_
                refine lv_goto (tgt := 86) hx hb dX8_isKept_82 (by decide) ?_
                exact JV_1 true (by rw [rf_isKept_V0, if_neg c_2, if_neg c_3, if_neg c_4, if_neg c_5, if_neg c_6, if_neg c_7, if_pos c_8]) ls (lv_sub hl [0] rfl)
              · refine lv_aload_n hx hb dX8_isKept_63 rfl (lv_at hl 0 rfl) ?_
                refine va_ldcS hx hb hown (hK.2.2 17 ("WindowHill$Reader", 110, "likes") rfl) dX8_isKept_64 ?_
                refine zr_obV ⟨hx, hb, hml, hown, hts⟩ (mt_rf_isWord l G rA rz ra rb r_sort r_number r_steps r_picture xA xa_trays xa_tape x_taped x_faultKind x_faultAt xa_bad xa_refused x_status x_above x_under nA xa_marks x_markMany xa_pictures x_lead x_round xa_ways x_bestSet x_bestMany x_left xa_aside xa_last x_hasLived xtape b_v0 b_v1 b_v2 b_v3 b_v4 b_v5 b_kind b_place 17 hrz hab hbz hso (by decide)) (cwV 1 hts (lw_V q685 q687 qs11 q151 q688) rfl rfl rfl hd_X8_isWord ⟨(Nat.le_of_ble_eq_true rfl), (Nat.le_of_ble_eq_true rfl)⟩) hP hK hE 0 8 rfl rfl rfl hl.1 rfl (Nat.le_of_ble_eq_true rfl) dX8_isKept_66 ⟨Nat.le_refl _, Nat.le_refl _⟩ ?_
                refine zr_neB (rf_isWord ra rb r_sort xtape 17) (tgt := 81) hx hb dX8_isKept_69 (by decide) (fun c_9 => ?_) (fun c_9 => ?_)
                · refine lv_iconst (v := 1) hx hb dX8_isKept_81 (by decide) ?_
                  refine lv_goto (tgt := 86) hx hb dX8_isKept_82 (by decide) ?_
                  exact JV_1 true (by rw [rf_isKept_V0, if_neg c_2, if_neg c_3, if_neg c_4, if_neg c_5, if_neg c_6, if_neg c_7, if_neg c_8, if_pos c_9]) ls (lv_sub hl [0] rfl)
                · refine lv_aload_n hx hb dX8_isKept_72 rfl (lv_at hl 0 rfl) ?_
                  refine va_ldcS hx hb hown (hK.2.2 18 ("WindowHill$Reader", 112, "to") rfl) dX8_isKept_73 ?_
                  refine zr_obV ⟨hx, hb, hml, hown, hts⟩ (mt_rf_isWord l G rA rz ra rb r_sort r_number r_steps r_picture xA xa_trays xa_tape x_taped x_faultKind x_faultAt xa_bad xa_refused x_status x_above x_under nA xa_marks x_markMany xa_pictures x_lead x_round xa_ways x_bestSet x_bestMany x_left xa_aside xa_last x_hasLived xtape b_v0 b_v1 b_v2 b_v3 b_v4 b_v5 b_kind b_place 18 hrz hab hbz hso (by decide)) (cwV 1 hts (lw_V q685 q687 qs11 q151 q688) rfl rfl rfl hd_X8_isWord ⟨(Nat.le_of_ble_eq_true rfl), (Nat.le_of_ble_eq_true rfl)⟩) hP hK hE 0 8 rfl rfl rfl hl.1 rfl (Nat.le_of_ble_eq_true rfl) dX8_isKept_75 ⟨Nat.le_refl _, Nat.le_refl _⟩ ?_
                  refine zr_eqB (rf_isWord ra rb r_sort xtape 18) (tgt := 85) hx hb dX8_isKept_78 (by decide) (fun c_10 => ?_) (fun c_10 => ?_)
                  · refine lv_iconst (v := 0) hx hb dX8_isKept_85 (by decide) ?_
                    exact JV_1 false (by rw [rf_isKept_V0, if_neg c_2, if_neg c_3, if_neg c_4, if_neg c_5, if_neg c_6, if_neg c_7, if_neg c_8, if_neg c_9, if_neg c_10]) ls (lv_sub hl [0] rfl)
                  · refine lv_iconst (v := 1) hx hb dX8_isKept_81 (by decide) ?_
                    refine lv_goto (tgt := 86) hx hb dX8_isKept_82 (by decide) ?_
                    exact JV_1 true (by rw [rf_isKept_V0, if_neg c_2, if_neg c_3, if_neg c_4, if_neg c_5, if_neg c_6, if_neg c_7, if_neg c_8, if_neg c_9, if_pos c_10]) ls (lv_sub hl [0] rfl)
def rf_name_B41 (ra : Nat) (rb : Nat) (xtape : Nat → Int32) (s_6 : Nat × Int64) : (Nat × Int64) ⊕ (Nat × Int64) :=
  (if rb ≤ s_6.1 then
    .inr (s_6.1, s_6.2)
  else
    .inl (s_6.1 + 1, ((s_6.2 * 32) + ((xtape s_6.1).toInt64)) - 96))
def rf_name_L41 (ra : Nat) (rb : Nat) (xtape : Nat → Int32) (s_6 : Nat × Int64) : Nat × Int64 := zw (rf_name_B41 ra rb xtape) (s_6) ((rb - s_6.1) + 1) s_6
def rf_name (ra : Nat) (rb : Nat) (r_sort : Int32) (xtape : Nat → Int32) (b_kind : Int32) (b_place : Int32) : Bool × Int64 × Int32 × Int32 :=
  (if r_sort = 1 then
    (if 8 < ((nI rb) - (nI ra)) then
      zlet (rf_wrong ra r_sort) (fun t_4 =>
      (false, 0, t_4.1, t_4.2))
    else
      (if (rf_isKept ra rb r_sort xtape) = true then
        zlet (rf_wrong ra r_sort) (fun t_8 =>
        (false, 0, t_8.1, t_8.2))
      else
        zlet (rf_name_L41 ra rb xtape (ra, 0)) (fun t_6 =>
        (true, t_6.2, b_kind, b_place))))
  else
    zlet (rf_wrong ra r_sort) (fun t_2 =>
    (false, 0, t_2.1, t_2.2)))
theorem hd_X8_name : yX8_name.cls = RX8 ∧ yX8_name.cls ≠ "java/lang/invoke/MethodHandle" ∧ yX8_name.cls ≠ "java/lang/invoke/VarHandle" ∧ (parseMethodDescriptor yX8_name.desc).map (fun d => d.parameters.length) = some 0 := by decide +kernel
set_option maxHeartbeats 4000000 in
set_option maxRecDepth 100000 in
theorem mt_rf_name (l : Launch) (G : zG) (rA : Nat) (rz : Nat) (ra : Nat) (rb : Nat) (r_sort : Int32) (r_number : Int32) (r_steps : Int32) (r_picture : Int32) (xA : Nat) (xa_trays : Nat) (xa_tape : Nat) (x_taped : Int32) (x_faultKind : Int32) (x_faultAt : Int32) (xa_bad : Nat) (xa_refused : Nat) (x_status : Int32) (x_above : Int64) (x_under : Int64) (nA : Nat) (xa_marks : Nat) (x_markMany : Int32) (xa_pictures : Nat) (x_lead : Int32) (x_round : Int32) (xa_ways : Nat) (x_bestSet : Int32) (x_bestMany : Int32) (x_left : Int32) (xa_aside : Nat) (xa_last : Nat) (x_hasLived : Bool) (xtape : Nat → Int32) (b_v0 : Value) (b_v1 : Value) (b_v2 : Value) (b_v3 : Value) (b_v4 : Value) (b_v5 : Value) (b_kind : Int32) (b_place : Int32) (hrz : rz ≤ 900) (hab : ra ≤ rb) (hbz : rb ≤ rz) (hso : r_sort = 0 ∨ ra < rb) (sz : Nat) : vx_Met l yX8_name (ws_ yX8_name cX8_name 4 (some .long)) (zR 8 0 0) (zPm G sz [.ref rA] (rW_ G rA (nI rz) (nI ra) (nI rb) r_sort r_number r_steps r_picture xA xa_trays xa_tape x_taped x_faultKind x_faultAt xa_bad xa_refused x_status x_above x_under nA xa_marks x_markMany xa_pictures x_lead x_round xa_ways x_bestSet x_bestMany x_left xa_aside xa_last x_hasLived xtape b_v0 b_v1 b_v2 b_v3 b_v4 b_v5 b_kind b_place)) (zQm G ((rf_name ra rb r_sort xtape b_kind b_place).1 = true ∧ (((rf_name ra rb r_sort xtape b_kind b_place).1) = false ∨ ¬ r_sort = 0)) (some (.long ((rf_name ra rb r_sort xtape b_kind b_place).2.1))) (rW_ G rA (nI rz) (nI ra) (nI rb) r_sort r_number r_steps r_picture xA xa_trays xa_tape x_taped x_faultKind x_faultAt xa_bad xa_refused x_status x_above x_under nA xa_marks x_markMany xa_pictures x_lead x_round xa_ways x_bestSet x_bestMany x_left xa_aside xa_last x_hasLived xtape b_v0 b_v1 b_v2 b_v3 b_v4 b_v5 ((rf_name ra rb r_sort xtape b_kind b_place).2.2.1) ((rf_name ra rb r_sort xtape b_kind b_place).2.2.2)) (va_A (rW_ G rA (nI rz) (nI ra) (nI rb) r_sort r_number r_steps r_picture xA xa_trays xa_tape x_taped x_faultKind x_faultAt xa_bad xa_refused x_status x_above x_under nA xa_marks x_markMany xa_pictures x_lead x_round xa_ways x_bestSet x_bestMany x_left xa_aside xa_last x_hasLived xtape b_v0 b_v1 b_v2 b_v3 b_v4 b_v5 b_kind b_place) sz)) (zXx G ((rf_name ra rb r_sort xtape b_kind b_place).1) ((((rf_name ra rb r_sort xtape b_kind b_place).1) = false ∨ ¬ r_sort = 0)) RX2 xa_bad (rW_ G rA (nI rz) (nI ra) (nI rb) r_sort r_number r_steps r_picture xA xa_trays xa_tape x_taped x_faultKind x_faultAt xa_bad xa_refused x_status x_above x_under nA xa_marks x_markMany xa_pictures x_lead x_round xa_ways x_bestSet x_bestMany x_left xa_aside xa_last x_hasLived xtape b_v0 b_v1 b_v2 b_v3 b_v4 b_v5 ((rf_name ra rb r_sort xtape b_kind b_place).2.2.1) ((rf_name ra rb r_sort xtape b_kind b_place).2.2.2)) (va_A (rW_ G rA (nI rz) (nI ra) (nI rb) r_sort r_number r_steps r_picture xA xa_trays xa_tape x_taped x_faultKind x_faultAt xa_bad xa_refused x_status x_above x_under nA xa_marks x_markMany xa_pictures x_lead x_round xa_ways x_bestSet x_bestMany x_left xa_aside xa_last x_hasLived xtape b_v0 b_v1 b_v2 b_v3 b_v4 b_v5 b_kind b_place) sz)) 0 0 (va_A (rW_ G rA (nI rz) (nI ra) (nI rb) r_sort r_number r_steps r_picture xA xa_trays xa_tape x_taped x_faultKind x_faultAt xa_bad xa_refused x_status x_above x_under nA xa_marks x_markMany xa_pictures x_lead x_round xa_ways x_bestSet x_bestMany x_left xa_aside xa_last x_hasLived xtape b_v0 b_v1 b_v2 b_v3 b_v4 b_v5 b_kind b_place) sz) := by
  refine zr_entX (by decide) (Nat.le_of_ble_eq_true rfl) ?_
  intro p e s m below meth c ⟨hx, hb, hr, hml, hown, hts, hlocks, hnm⟩ hout ls hl hP hK A hE hA hD hS
  have hown : s.vm.findClass RX8 = some m.cls := hown
  have hl : lv_has ls 4 [(0, .ref rA)] := hl
  obtain ⟨H, hH⟩ : ∃ H, H = s.heap := ⟨_, rfl⟩
  obtain ⟨locs, hlo⟩ : ∃ L : List Loc, L = [] := ⟨_, rfl⟩
  rw [← hH] at hP
  have hS : va_S A s.heap H locs := by rw [hH, hlo]; exact va_S.rf
  have hgo : W p l e (zR 8 0 0) s m ([.ref rA] : List Value).toArray below meth c H locs 0 0 (vx_MQ below (zQm G ((rf_name ra rb r_sort xtape b_kind b_place).1 = true ∧ (((rf_name ra rb r_sort xtape b_kind b_place).1) = false ∨ ¬ r_sort = 0)) (some (.long ((rf_name ra rb r_sort xtape b_kind b_place).2.1))) (rW_ G rA (nI rz) (nI ra) (nI rb) r_sort r_number r_steps r_picture xA xa_trays xa_tape x_taped x_faultKind x_faultAt xa_bad xa_refused x_status x_above x_under nA xa_marks x_markMany xa_pictures x_lead x_round xa_ways x_bestSet x_bestMany x_left xa_aside xa_last x_hasLived xtape b_v0 b_v1 b_v2 b_v3 b_v4 b_v5 ((rf_name ra rb r_sort xtape b_kind b_place).2.2.1) ((rf_name ra rb r_sort xtape b_kind b_place).2.2.2)) A) (zXx G ((rf_name ra rb r_sort xtape b_kind b_place).1) ((((rf_name ra rb r_sort xtape b_kind b_place).1) = false ∨ ¬ r_sort = 0)) RX2 xa_bad (rW_ G rA (nI rz) (nI ra) (nI rb) r_sort r_number r_steps r_picture xA xa_trays xa_tape x_taped x_faultKind x_faultAt xa_bad xa_refused x_status x_above x_under nA xa_marks x_markMany xa_pictures x_lead x_round xa_ways x_bestSet x_bestMany x_left xa_aside xa_last x_hasLived xtape b_v0 b_v1 b_v2 b_v3 b_v4 b_v5 ((rf_name ra rb r_sort xtape b_kind b_place).2.2.1) ((rf_name ra rb r_sort xtape b_kind b_place).2.2.2)) A) ([.ref rA] : List Value).toArray s 0 0 A) (F0 m 0 ls []) := ?_
  · rw [hH, hlo] at hgo; exact hgo
  clear hH hlo
  refine lv_aload_n hx hb dX8_name_0 rfl (lv_at hl 0 rfl) ?_
  refine va_get (D := G.1) (ci := 8) (v := .int r_sort) (C := RX8) (T := TX8) (N := 8) hx hb hts in_X8 hown hK.1 hP 0 rfl rfl 3 (Nat.le_of_ble_eq_true rfl) (hts _ q652) (fun _ h => h) rfl dX8_name_1 ?_
  refine lv_iconst (v := 1) hx hb dX8_name_4 (by decide) ?_
  refine lv_icmp_ne (tgt := 29) hx hb dX8_name_5 (by decide) (fun c_1 => ?_) (fun c_1 => ?_)
  · refine lv_aload_n hx hb dX8_name_29 rfl (lv_at hl 0 rfl) ?_
    refine zr_muV (F := rf_wrong ra r_sort) (ff := fun t_2 => True) (rr := fun t_2 => some (.ref xa_bad)) (w1 := fun t_2 => (rW_ G rA (nI rz) (nI ra) (nI rb) r_sort r_number r_steps r_picture xA xa_trays xa_tape x_taped x_faultKind x_faultAt xa_bad xa_refused x_status x_above x_under nA xa_marks x_markMany xa_pictures x_lead x_round xa_ways x_bestSet x_bestMany x_left xa_aside xa_last x_hasLived xtape b_v0 b_v1 b_v2 b_v3 b_v4 b_v5 t_2.1 t_2.2)) ⟨hx, hb, hml, hown, hts⟩ (mt_rf_wrong l G rA rz ra rb r_sort r_number r_steps r_picture xA xa_trays xa_tape x_taped x_faultKind x_faultAt xa_bad xa_refused x_status x_above x_under nA xa_marks x_markMany xa_pictures x_lead x_round xa_ways x_bestSet x_bestMany x_left xa_aside xa_last x_hasLived xtape b_v0 b_v1 b_v2 b_v3 b_v4 b_v5 b_kind b_place hrz hab hbz hso H.size) (cwV 0 hts (lw_V q737 q739 qs12 q151 q740) rfl rfl rfl hd_X8_wrong ⟨(Nat.le_of_ble_eq_true rfl), (Nat.le_of_ble_eq_true rfl)⟩) hP hD hS hA hK hE 0 8 rfl rfl rfl hl.1 rfl (Nat.le_of_ble_eq_true rfl) dX8_name_30 ⟨Nat.le_refl _, Nat.le_refl _⟩ (fun t_2 ht_2 hft_2 H locs hP hD hS _ => ?_)
    refine W.eq (g2 := F0 m 33 ls [.ref xa_bad]) rfl ?_
    refine vx_athrow hx hb dX8_name_33 ?_
    have e_ : rf_name ra rb r_sort xtape b_kind b_place = (false, 0, t_2.1, t_2.2) := by rw [rf_name, if_neg c_1, zlet_eq ht_2]
    exact zr_xthrow hout hlocks hK hP hD hS 3 2 rfl rfl (by rw [e_]) (by rw [e_]) (by rw [e_]; exact (by first | exact Or.inl rfl | exact Or.inr hs1))
  · have hs1 : ¬ r_sort = 0 := by rw [c_1]; decide
    refine lv_aload_n hx hb dX8_name_8 rfl (lv_at hl 0 rfl) ?_
    refine va_get (D := G.1) (ci := 8) (v := .int (nI rb)) (C := RX8) (T := TX8) (N := 8) hx hb hts in_X8 hown hK.1 hP 0 rfl rfl 2 (Nat.le_of_ble_eq_true rfl) (hts _ q651) (fun _ h => h) rfl dX8_name_9 ?_
    refine lv_aload_n hx hb dX8_name_12 rfl (lv_at hl 0 rfl) ?_
    refine va_get (D := G.1) (ci := 8) (v := .int (nI ra)) (C := RX8) (T := TX8) (N := 8) hx hb hts in_X8 hown hK.1 hP 0 rfl rfl 1 (Nat.le_of_ble_eq_true rfl) (hts _ q650) (fun _ h => h) rfl dX8_name_13 ?_
    refine lv_isub hx hb dX8_name_16 ?_
    refine lv_bipush (v := 8) hx hb dX8_name_17 (by decide) ?_
    refine lv_icmp_gt (tgt := 29) hx hb dX8_name_19 (by decide) (fun c_3 => ?_) (fun c_3 => ?_)
    · refine lv_aload_n hx hb dX8_name_29 rfl (lv_at hl 0 rfl) ?_
      refine zr_muV (F := rf_wrong ra r_sort) (ff := fun t_4 => True) (rr := fun t_4 => some (.ref xa_bad)) (w1 := fun t_4 => (rW_ G rA (nI rz) (nI ra) (nI rb) r_sort r_number r_steps r_picture xA xa_trays xa_tape x_taped x_faultKind x_faultAt xa_bad xa_refused x_status x_above x_under nA xa_marks x_markMany xa_pictures x_lead x_round xa_ways x_bestSet x_bestMany x_left xa_aside xa_last x_hasLived xtape b_v0 b_v1 b_v2 b_v3 b_v4 b_v5 t_4.1 t_4.2)) ⟨hx, hb, hml, hown, hts⟩ (mt_rf_wrong l G rA rz ra rb r_sort r_number r_steps r_picture xA xa_trays xa_tape x_taped x_faultKind x_faultAt xa_bad xa_refused x_status x_above x_under nA xa_marks x_markMany xa_pictures x_lead x_round xa_ways x_bestSet x_bestMany x_left xa_aside xa_last x_hasLived xtape b_v0 b_v1 b_v2 b_v3 b_v4 b_v5 b_kind b_place hrz hab hbz hso H.size) (cwV 0 hts (lw_V q737 q739 qs12 q151 q740) rfl rfl rfl hd_X8_wrong ⟨(Nat.le_of_ble_eq_true rfl), (Nat.le_of_ble_eq_true rfl)⟩) hP hD hS hA hK hE 0 8 rfl rfl rfl hl.1 rfl (Nat.le_of_ble_eq_true rfl) dX8_name_30 ⟨Nat.le_refl _, Nat.le_refl _⟩ (fun t_4 ht_4 hft_4 H locs hP hD hS _ => ?_)
      refine W.eq (g2 := F0 m 33 ls [.ref xa_bad]) rfl ?_
      refine vx_athrow hx hb dX8_name_33 ?_
      have e_ : rf_name ra rb r_sort xtape b_kind b_place = (false, 0, t_4.1, t_4.2) := by rw [rf_name, if_pos c_1, if_pos c_3, zlet_eq ht_4]
      exact zr_xthrow hout hlocks hK hP hD hS 3 2 rfl rfl (by rw [e_]) (by rw [e_]) (by rw [e_]; exact (by first | exact Or.inl rfl | exact Or.inr hs1))
    · refine lv_aload_n hx hb dX8_name_22 rfl (lv_at hl 0 rfl) ?_
      refine zr_obV ⟨hx, hb, hml, hown, hts⟩ (mt_rf_isKept l G rA rz ra rb r_sort r_number r_steps r_picture xA xa_trays xa_tape x_taped x_faultKind x_faultAt xa_bad xa_refused x_status x_above x_under nA xa_marks x_markMany xa_pictures x_lead x_round xa_ways x_bestSet x_bestMany x_left xa_aside xa_last x_hasLived xtape b_v0 b_v1 b_v2 b_v3 b_v4 b_v5 b_kind b_place hrz hab hbz hso) (cwV 0 hts (lw_V q780 q782 qs20 q151 q783) rfl rfl rfl hd_X8_isKept ⟨(Nat.le_of_ble_eq_true rfl), (Nat.le_of_ble_eq_true rfl)⟩) hP hK (zE_o hE hS) 0 8 rfl rfl rfl hl.1 rfl (Nat.le_of_ble_eq_true rfl) dX8_name_23 ⟨Nat.le_refl _, Nat.le_refl _⟩ ?_
      refine zr_eqB (rf_isKept ra rb r_sort xtape) (tgt := 34) hx hb dX8_name_26 (by decide) (fun c_5 => ?_) (fun c_5 => ?_)
      · refine lv_lconst (v := 0) hx hb dX8_name_34 rfl ?_
        refine lv_lstore_n (lv' := [(1, .long 0), (0, .ref rA)]) hx hb dX8_name_35 rfl hl (by decide) rfl (fun ls hl => ?_)
        refine lv_aload_n hx hb dX8_name_36 rfl (lv_at hl 1 rfl) ?_
        refine va_get (D := G.1) (ci := 8) (v := .int (nI ra)) (C := RX8) (T := TX8) (N := 8) hx hb hts in_X8 hown hK.1 hP 0 rfl rfl 1 (Nat.le_of_ble_eq_true rfl) (hts _ q650) (fun _ h => h) rfl dX8_name_37 ?_
        refine lv_istore_n (lv' := [(3, .int (nI ra)), (1, .long 0), (0, .ref rA)]) hx hb dX8_name_40 rfl hl (by decide) rfl (fun ls hl => ?_)
        have hx_6 : ∀ t_6 : Nat × Int64, rf_name_L41 ra rb xtape (ra, 0) = t_6 → ∀ (H : Heap) (locs : List Loc), va_P G.1 zcl (rW_ G rA (nI rz) (nI ra) (nI rb) r_sort r_number r_steps r_picture xA xa_trays xa_tape x_taped x_faultKind x_faultAt xa_bad xa_refused x_status x_above x_under nA xa_marks x_markMany xa_pictures x_lead x_round xa_ways x_bestSet x_bestMany x_left xa_aside xa_last x_hasLived xtape b_v0 b_v1 b_v2 b_v3 b_v4 b_v5 b_kind b_place) H → va_D A (rW_ G rA (nI rz) (nI ra) (nI rb) r_sort r_number r_steps r_picture xA xa_trays xa_tape x_taped x_faultKind x_faultAt xa_bad xa_refused x_status x_above x_under nA xa_marks x_markMany xa_pictures x_lead x_round xa_ways x_bestSet x_bestMany x_left xa_aside xa_last x_hasLived xtape b_v0 b_v1 b_v2 b_v3 b_v4 b_v5 b_kind b_place) → va_S A s.heap H locs → ∀ ls : Array Slot, lv_has ls 4 [(1, .long t_6.2)] → W p l e (zR 8 0 0) s m ([.ref rA] : List Value).toArray below meth c H locs 0 0 (vx_MQ below (zQm G ((rf_name ra rb r_sort xtape b_kind b_place).1 = true ∧ (((rf_name ra rb r_sort xtape b_kind b_place).1) = false ∨ ¬ r_sort = 0)) (some (.long ((rf_name ra rb r_sort xtape b_kind b_place).2.1))) (rW_ G rA (nI rz) (nI ra) (nI rb) r_sort r_number r_steps r_picture xA xa_trays xa_tape x_taped x_faultKind x_faultAt xa_bad xa_refused x_status x_above x_under nA xa_marks x_markMany xa_pictures x_lead x_round xa_ways x_bestSet x_bestMany x_left xa_aside xa_last x_hasLived xtape b_v0 b_v1 b_v2 b_v3 b_v4 b_v5 ((rf_name ra rb r_sort xtape b_kind b_place).2.2.1) ((rf_name ra rb r_sort xtape b_kind b_place).2.2.2)) A) (zXx G ((rf_name ra rb r_sort xtape b_kind b_place).1) ((((rf_name ra rb r_sort xtape b_kind b_place).1) = false ∨ ¬ r_sort = 0)) RX2 xa_bad (rW_ G rA (nI rz) (nI ra) (nI rb) r_sort r_number r_steps r_picture xA xa_trays xa_tape x_taped x_faultKind x_faultAt xa_bad xa_refused x_status x_above x_under nA xa_marks x_markMany xa_pictures x_lead x_round xa_ways x_bestSet x_bestMany x_left xa_aside xa_last x_hasLived xtape b_v0 b_v1 b_v2 b_v3 b_v4 b_v5 ((rf_name ra rb r_sort xtape b_kind b_place).2.2.1) ((rf_name ra rb r_sort xtape b_kind b_place).2.2.2)) A) ([.ref rA] : List Value).toArray s 0 0 A) (F0 m 76 ls []) := by
          intro t_6 ht_6 H locs hP hD hS ls hl
          refine lv_lload_n hx hb dX8_name_76 rfl (lv_at hl 0 rfl) ?_
          have e_ : rf_name ra rb r_sort xtape b_kind b_place = (true, t_6.2, b_kind, b_place) := by rw [rf_name, if_pos c_1, if_neg c_3, if_neg c_5, zlet_eq ht_6]
          refine vx_ret ?_
          exact zr_ml hx hb hr hlocks hP hD hS dX8_name_77 (by rw [e_])  (by rw [e_]) (by rw [e_]; exact ⟨rfl, (by first | exact Or.inl rfl | exact Or.inr hs1)⟩)
        have hlp_6 : ∀ (n : Nat) (s_6 : Nat × Int64), rb - s_6.1 < n → zw (rf_name_B41 ra rb xtape) (ra, 0) n s_6 = rf_name_L41 ra rb xtape (ra, 0) → ra ≤ s_6.1 ∧ s_6.1 ≤ rb → ∀ (H : Heap) (locs : List Loc), va_P G.1 zcl (rW_ G rA (nI rz) (nI ra) (nI rb) r_sort r_number r_steps r_picture xA xa_trays xa_tape x_taped x_faultKind x_faultAt xa_bad xa_refused x_status x_above x_under nA xa_marks x_markMany xa_pictures x_lead x_round xa_ways x_bestSet x_bestMany x_left xa_aside xa_last x_hasLived xtape b_v0 b_v1 b_v2 b_v3 b_v4 b_v5 b_kind b_place) H → va_D A (rW_ G rA (nI rz) (nI ra) (nI rb) r_sort r_number r_steps r_picture xA xa_trays xa_tape x_taped x_faultKind x_faultAt xa_bad xa_refused x_status x_above x_under nA xa_marks x_markMany xa_pictures x_lead x_round xa_ways x_bestSet x_bestMany x_left xa_aside xa_last x_hasLived xtape b_v0 b_v1 b_v2 b_v3 b_v4 b_v5 b_kind b_place) → va_S A s.heap H locs → ∀ ls : Array Slot, lv_has ls 4 [(3, .int (nI s_6.1)), (1, .long s_6.2), (0, .ref rA)] → W p l e (zR 8 0 0) s m ([.ref rA] : List Value).toArray below meth c H locs 0 0 (vx_MQ below (zQm G ((rf_name ra rb r_sort xtape b_kind b_place).1 = true ∧ (((rf_name ra rb r_sort xtape b_kind b_place).1) = false ∨ ¬ r_sort = 0)) (some (.long ((rf_name ra rb r_sort xtape b_kind b_place).2.1))) (rW_ G rA (nI rz) (nI ra) (nI rb) r_sort r_number r_steps r_picture xA xa_trays xa_tape x_taped x_faultKind x_faultAt xa_bad xa_refused x_status x_above x_under nA xa_marks x_markMany xa_pictures x_lead x_round xa_ways x_bestSet x_bestMany x_left xa_aside xa_last x_hasLived xtape b_v0 b_v1 b_v2 b_v3 b_v4 b_v5 ((rf_name ra rb r_sort xtape b_kind b_place).2.2.1) ((rf_name ra rb r_sort xtape b_kind b_place).2.2.2)) A) (zXx G ((rf_name ra rb r_sort xtape b_kind b_place).1) ((((rf_name ra rb r_sort xtape b_kind b_place).1) = false ∨ ¬ r_sort = 0)) RX2 xa_bad (rW_ G rA (nI rz) (nI ra) (nI rb) r_sort r_number r_steps r_picture xA xa_trays xa_tape x_taped x_faultKind x_faultAt xa_bad xa_refused x_status x_above x_under nA xa_marks x_markMany xa_pictures x_lead x_round xa_ways x_bestSet x_bestMany x_left xa_aside xa_last x_hasLived xtape b_v0 b_v1 b_v2 b_v3 b_v4 b_v5 ((rf_name ra rb r_sort xtape b_kind b_place).2.2.1) ((rf_name ra rb r_sort xtape b_kind b_place).2.2.2)) A) ([.ref rA] : List Value).toArray s 0 0 A) (F0 m 41 ls []) := by
          intro n
          induction n with
          | zero => exact fun _ h => absurd h (Nat.not_lt_zero _)
          | succ n ih_6 =>
            intro s_6 hmu_6 hR_6 hi3 H locs hP hD hS ls hl
            refine lv_iload_n hx hb dX8_name_41 rfl (lv_at hl 0 rfl) ?_
            refine lv_aload_n hx hb dX8_name_42 rfl (lv_at hl 2 rfl) ?_
            refine va_get (D := G.1) (ci := 8) (v := .int (nI rb)) (C := RX8) (T := TX8) (N := 8) hx hb hts in_X8 hown hK.1 hP 0 rfl rfl 2 (Nat.le_of_ble_eq_true rfl) (hts _ q651) (fun _ h => h) rfl dX8_name_43 ?_
            refine zr_ge s_6.1 rb (by omega) (by omega) (tgt := 76) hx hb dX8_name_46 (by decide) (fun c_7 => ?_) (fun c_7 => ?_)
            · exact hx_6 (s_6.1, s_6.2) (hR_6.symm.trans (zw_r (by rw [rf_name_B41, if_pos c_7]))) H locs hP hD hS ls (lv_sub hl [1] rfl)
            · refine lv_lload_n hx hb dX8_name_49 rfl (lv_at hl 1 rfl) ?_
              refine lv_ldc2 (v := 32) hx hb hown (hts _ q810) dX8_name_50 ?_
              refine lv_lmul hx hb dX8_name_53 ?_
              refine lv_aload_n hx hb dX8_name_54 rfl (lv_at hl 2 rfl) ?_
              refine va_get (D := G.1) (ci := 8) (v := .ref xA) (C := RX8) (T := TX8) (N := 8) hx hb hts in_X8 hown hK.1 hP 0 rfl rfl 7 (Nat.le_of_ble_eq_true rfl) (hts _ q658) (fun _ h => h) rfl dX8_name_55 ?_
              refine va_getN (D := G.1) (ci := 0) (v := .ref xa_tape) (C := RX0) (T := TX0) (N := 23) hx hb hts in_X0 hown hK.1 hP 1 rfl rfl 1 (Nat.le_of_ble_eq_true rfl) ((hK.2.1.1 _ (List.mem_of_getElem? (i := 52) rfl)).use rfl) (fun _ h => h) rfl dX8_name_58 ?_
              refine lv_iload_n hx hb dX8_name_61 rfl (lv_at hl 0 rfl) ?_
              refine zr_bald s_6.1 (v := xtape s_6.1) hx hb hK hP 2 rfl rfl (Nat.le_of_ble_eq_true rfl) rfl (by omega) rfl dX8_name_62 ?_
              refine lv_i2l hx hb dX8_name_63 rfl ?_
              refine lv_ladd hx hb dX8_name_64 ?_
              refine lv_ldc2 (v := 96) hx hb hown (hts _ q811) dX8_name_65 ?_
              refine lv_lsub hx hb dX8_name_68 ?_
              refine lv_lstore_n (lv' := [(1, .long (((s_6.2 * 32) + ((xtape s_6.1).toInt64)) - 96)), (3, .int (nI s_6.1)), (0, .ref rA)]) hx hb dX8_name_69 rfl hl (by decide) rfl (fun ls hl => ?_)
              refine lv_iinc (v := nI (s_6.1 + 1)) (lv' := [(3, .int (nI (s_6.1 + 1))), (1, .long (((s_6.2 * 32) + ((xtape s_6.1).toInt64)) - 96)), (0, .ref rA)]) hx hb dX8_name_70 hl (k := 1) rfl (nI_add s_6.1 1) (by decide) rfl (fun ls hl => ?_)
              refine lv_goto (tgt := 41) hx hb dX8_name_73 (by decide) ?_
              exact ih_6 (s_6.1 + 1, ((s_6.2 * 32) + ((xtape s_6.1).toInt64)) - 96) (by omega) ((zw_l (by rw [rf_name_B41, if_neg c_7])).symm.trans hR_6) (by omega) H locs hP hD hS ls (lv_sub hl [0, 1, 2] rfl)
        exact hlp_6 _ (ra, 0) (Nat.lt_succ_self _) (by rw [rf_name_L41]) (by omega) H locs hP hD hS ls (lv_sub hl [0, 1, 2] rfl)
      · refine lv_aload_n hx hb dX8_name_29 rfl (lv_at hl 0 rfl) ?_
        refine zr_muV (F := rf_wrong ra r_sort) (ff := fun t_8 => True) (rr := fun t_8 => some (.ref xa_bad)) (w1 := fun t_8 => (rW_ G rA (nI rz) (nI ra) (nI rb) r_sort r_number r_steps r_picture xA xa_trays xa_tape x_taped x_faultKind x_faultAt xa_bad xa_refused x_status x_above x_under nA xa_marks x_markMany xa_pictures x_lead x_round xa_ways x_bestSet x_bestMany x_left xa_aside xa_last x_hasLived xtape b_v0 b_v1 b_v2 b_v3 b_v4 b_v5 t_8.1 t_8.2)) ⟨hx, hb, hml, hown, hts⟩ (mt_rf_wrong l G rA rz ra rb r_sort r_number r_steps r_picture xA xa_trays xa_tape x_taped x_faultKind x_faultAt xa_bad xa_refused x_status x_above x_under nA xa_marks x_markMany xa_pictures x_lead x_round xa_ways x_bestSet x_bestMany x_left xa_aside xa_last x_hasLived xtape b_v0 b_v1 b_v2 b_v3 b_v4 b_v5 b_kind b_place hrz hab hbz hso H.size) (cwV 0 hts (lw_V q737 q739 qs12 q151 q740) rfl rfl rfl hd_X8_wrong ⟨(Nat.le_of_ble_eq_true rfl), (Nat.le_of_ble_eq_true rfl)⟩) hP hD hS hA hK hE 0 8 rfl rfl rfl hl.1 rfl (Nat.le_of_ble_eq_true rfl) dX8_name_30 ⟨Nat.le_refl _, Nat.le_refl _⟩ (fun t_8 ht_8 hft_8 H locs hP hD hS _ => ?_)
        refine W.eq (g2 := F0 m 33 ls [.ref xa_bad]) rfl ?_
        refine vx_athrow hx hb dX8_name_33 ?_
        have e_ : rf_name ra rb r_sort xtape b_kind b_place = (false, 0, t_8.1, t_8.2) := by rw [rf_name, if_pos c_1, if_neg c_3, if_pos c_5, zlet_eq ht_8]
        exact zr_xthrow hout hlocks hK hP hD hS 3 2 rfl rfl (by rw [e_]) (by rw [e_]) (by rw [e_]; exact (by first | exact Or.inl rfl | exact Or.inr hs1))
