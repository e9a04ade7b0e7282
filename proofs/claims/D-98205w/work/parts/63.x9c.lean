def rf_isWord_B28 (ra : Nat) (xtape : Nat → Int32) (wi : Nat) (s_3 : Nat) : (Nat) ⊕ ((Nat) ⊕ (Bool)) :=
  (if (zLen.getD wi 0) ≤ s_3 then
    .inr (.inl s_3)
  else
    (if (xtape (ra + s_3)) = (zch wi s_3) then
      .inl (s_3 + 1)
    else
      .inr (.inr false)))
def rf_isWord_L28 (ra : Nat) (xtape : Nat → Int32) (wi : Nat) (s_3 : Nat) : (Nat) ⊕ (Bool) := zw (rf_isWord_B28 ra xtape wi) (.inl s_3) ((zLen.getD wi 0 - s_3) + 1) s_3
def rf_isWord (ra : Nat) (rb : Nat) (r_sort : Int32) (xtape : Nat → Int32) (wi : Nat) : Bool :=
  (if r_sort = 1 then
    (if (rb - ra) = (zLen.getD wi 0) then
      zcase (rf_isWord_L28 ra xtape wi 0) (fun t_3 =>
      true) (fun r => r)
    else
      false)
  else
    false)
theorem hd_X8_isWord : yX8_isWord.cls = RX8 ∧ yX8_isWord.cls ≠ "java/lang/invoke/MethodHandle" ∧ yX8_isWord.cls ≠ "java/lang/invoke/VarHandle" ∧ (parseMethodDescriptor yX8_isWord.desc).map (fun d => d.parameters.length) = some 1 := by decide +kernel
set_option maxHeartbeats 4000000 in
set_option maxRecDepth 100000 in
theorem mt_rf_isWord (l : Launch) (G : zG) (rA : Nat) (rz : Nat) (ra : Nat) (rb : Nat) (r_sort : Int32) (r_number : Int32) (r_steps : Int32) (r_picture : Int32) (xA : Nat) (xa_trays : Nat) (xa_tape : Nat) (x_taped : Int32) (x_faultKind : Int32) (x_faultAt : Int32) (xa_bad : Nat) (xa_refused : Nat) (x_status : Int32) (x_above : Int64) (x_under : Int64) (nA : Nat) (xa_marks : Nat) (x_markMany : Int32) (xa_pictures : Nat) (x_lead : Int32) (x_round : Int32) (xa_ways : Nat) (x_bestSet : Int32) (x_bestMany : Int32) (x_left : Int32) (xa_aside : Nat) (xa_last : Nat) (x_hasLived : Bool) (xtape : Nat → Int32) (b_v0 : Value) (b_v1 : Value) (b_v2 : Value) (b_v3 : Value) (b_v4 : Value) (b_v5 : Value) (b_kind : Int32) (b_place : Int32) (wi : Nat) (hrz : rz ≤ 900) (hab : ra ≤ rb) (hbz : rb ≤ rz) (hso : r_sort = 0 ∨ ra < rb) (hwi : wi < 23) : Met l yX8_isWord (ws_ yX8_isWord cX8_isWord 3 (some .boolean)) (zR 5 0 0) (zPo G [.ref rA, .ref (zK G wi)] (rW_ G rA (nI rz) (nI ra) (nI rb) r_sort r_number r_steps r_picture xA xa_trays xa_tape x_taped x_faultKind x_faultAt xa_bad xa_refused x_status x_above x_under nA xa_marks x_markMany xa_pictures x_lead x_round xa_ways x_bestSet x_bestMany x_left xa_aside xa_last x_hasLived xtape b_v0 b_v1 b_v2 b_v3 b_v4 b_v5 b_kind b_place)) (k2_QcV (.int (zb (rf_isWord ra rb r_sort xtape wi)))) 0 0 (fun _ => False) := by
  refine zr_entO (by decide) (Nat.le_of_ble_eq_true rfl) ?_
  intro p e s m below meth c ⟨hx, hb, hr, hml, hown, hts, hlocks, hnm⟩ ls hl hP hK hE
  have hown : s.vm.findClass RX8 = some m.cls := hown
  have hl : lv_has ls 3 [(0, .ref rA), (1, .ref (zK G wi))] := hl
  have hzl := zlen_116 wi hwi
  refine lv_aload_n hx hb dX8_isWord_0 rfl (lv_at hl 0 rfl) ?_
  refine va_get (D := G.1) (ci := 8) (v := .int r_sort) (C := RX8) (T := TX8) (N := 8) hx hb hts in_X8 hown hK.1 hP 0 rfl rfl 3 (Nat.le_of_ble_eq_true rfl) (hts _ q652) (fun _ h => h) rfl dX8_isWord_1 ?_
  refine lv_iconst (v := 1) hx hb dX8_isWord_4 (by decide) ?_
  refine lv_icmp_ne (tgt := 24) hx hb dX8_isWord_5 (by decide) (fun c_1 => ?_) (fun c_1 => ?_)
  · refine lv_iconst (v := 0) hx hb dX8_isWord_24 (by decide) ?_
    have e_ : rf_isWord ra rb r_sort xtape wi = false := by rw [rf_isWord, if_neg c_1]
    exact zr_oz hx hb hr hlocks dX8_isWord_25 rfl (congrArg (fun z => Value.int (zb z)) e_)
  · refine lv_aload_n hx hb dX8_isWord_8 rfl (lv_at hl 0 rfl) ?_
    refine va_get (D := G.1) (ci := 8) (v := .int (nI rb)) (C := RX8) (T := TX8) (N := 8) hx hb hts in_X8 hown hK.1 hP 0 rfl rfl 2 (Nat.le_of_ble_eq_true rfl) (hts _ q651) (fun _ h => h) rfl dX8_isWord_9 ?_
    refine lv_aload_n hx hb dX8_isWord_12 rfl (lv_at hl 0 rfl) ?_
    refine va_get (D := G.1) (ci := 8) (v := .int (nI ra)) (C := RX8) (T := TX8) (N := 8) hx hb hts in_X8 hown hK.1 hP 0 rfl rfl 1 (Nat.le_of_ble_eq_true rfl) (hts _ q650) (fun _ h => h) rfl dX8_isWord_13 ?_
    refine zr_isubN rb ra (by omega) hx hb dX8_isWord_16 ?_
    refine lv_aload_n hx hb dX8_isWord_17 rfl (lv_at hl 1 rfl) ?_
    refine zr_obStr ⟨hx, hb, hml, hown, hts⟩ wi (mt_jf_length l G wi hwi) (cwV 0 hts (lw_V q689 q690 q691 q147 q692) rfl rfl rfl hd_J4_length ⟨(Nat.le_of_ble_eq_true rfl), (Nat.le_of_ble_eq_true rfl)⟩) hK hE hwi rfl hl.1 rfl (Nat.le_of_ble_eq_true rfl) dX8_isWord_18 ⟨Nat.le_refl _, Nat.le_refl _⟩ ?_
    refine W.eq (g2 := F0 m 21 ls [.int (nI (zLen.getD wi 0)), .int (nI (rb - ra))]) rfl ?_
    refine zr_eq (rb - ra) (zLen.getD wi 0) (by omega) (by omega) (tgt := 26) hx hb dX8_isWord_21 (by decide) (fun c_2 => ?_) (fun c_2 => ?_)
    · have hlen := c_2
      refine lv_iconst (v := 0) hx hb dX8_isWord_26 (by decide) ?_
      refine lv_istore_n (lv' := [(2, .int 0), (0, .ref rA), (1, .ref (zK G wi))]) hx hb dX8_isWord_27 rfl hl (by decide) rfl (fun ls hl => ?_)
      have hx_3 : ∀ t_3 : Nat, rf_isWord_L28 ra xtape wi 0 = .inl t_3 → ∀ ls : Array Slot, lv_has ls 3 [] → W p l e (zR 5 0 0) s m ([.ref rA, .ref (zK G wi)] : List Value).toArray below meth c s.heap [] 0 0 (MQ below (k2_QcV (.int (zb (rf_isWord ra rb r_sort xtape wi)))) ([.ref rA, .ref (zK G wi)] : List Value).toArray s 0 0 (fun _ => False)) (F0 m 66 ls []) := by
        intro t_3 ht_3 ls hl
        refine lv_iconst (v := 1) hx hb dX8_isWord_66 (by decide) ?_
        have e_ : rf_isWord ra rb r_sort xtape wi = true := by rw [rf_isWord, if_pos c_1, if_pos c_2, zcase_l ht_3]
        exact zr_oz hx hb hr hlocks dX8_isWord_67 rfl (congrArg (fun z => Value.int (zb z)) e_)
      have hlp_3 : ∀ (n : Nat) (s_3 : Nat), zLen.getD wi 0 - s_3 < n → zw (rf_isWord_B28 ra xtape wi) (.inl 0) n s_3 = rf_isWord_L28 ra xtape wi 0 → s_3 ≤ zLen.getD wi 0 → ∀ ls : Array Slot, lv_has ls 3 [(2, .int (nI s_3)), (0, .ref rA), (1, .ref (zK G wi))] → W p l e (zR 5 0 0) s m ([.ref rA, .ref (zK G wi)] : List Value).toArray below meth c s.heap [] 0 0 (MQ below (k2_QcV (.int (zb (rf_isWord ra rb r_sort xtape wi)))) ([.ref rA, .ref (zK G wi)] : List Value).toArray s 0 0 (fun _ => False)) (F0 m 28 ls []) := by
        intro n
        induction n with
        | zero => exact fun _ h => absurd h (Nat.not_lt_zero _)
        | succ n ih_3 =>
          intro s_3 hmu_3 hR_3 hi2 ls hl
          refine lv_iload_n hx hb dX8_isWord_28 rfl (lv_at hl 0 rfl) ?_
          refine lv_aload_n hx hb dX8_isWord_29 rfl (lv_at hl 2 rfl) ?_
          refine zr_obStr ⟨hx, hb, hml, hown, hts⟩ wi (mt_jf_length l G wi hwi) (cwV 0 hts (lw_V q689 q690 q691 q147 q692) rfl rfl rfl hd_J4_length ⟨(Nat.le_of_ble_eq_true rfl), (Nat.le_of_ble_eq_true rfl)⟩) hK hE hwi rfl hl.1 rfl (Nat.le_of_ble_eq_true rfl) dX8_isWord_30 ⟨Nat.le_refl _, Nat.le_refl _⟩ ?_
          refine W.eq (g2 := F0 m 33 ls [.int (nI (zLen.getD wi 0)), .int (nI s_3)]) rfl ?_
          refine zr_ge s_3 (zLen.getD wi 0) (by omega) (by omega) (tgt := 66) hx hb dX8_isWord_33 (by decide) (fun c_4 => ?_) (fun c_4 => ?_)
          · exact hx_3 s_3 (hR_3.symm.trans (zw_r (by rw [rf_isWord_B28, if_pos c_4]))) ls (lv_sub hl [] rfl)
          · refine lv_aload_n hx hb dX8_isWord_36 rfl (lv_at hl 1 rfl) ?_
            refine va_get (D := G.1) (ci := 8) (v := .ref xA) (C := RX8) (T := TX8) (N := 8) hx hb hts in_X8 hown hK.1 hP 0 rfl rfl 7 (Nat.le_of_ble_eq_true rfl) (hts _ q658) (fun _ h => h) rfl dX8_isWord_37 ?_
            refine va_getN (D := G.1) (ci := 0) (v := .ref xa_tape) (C := RX0) (T := TX0) (N := 23) hx hb hts in_X0 hown hK.1 hP 1 rfl rfl 1 (Nat.le_of_ble_eq_true rfl) ((hK.2.1.1 _ (List.mem_of_getElem? (i := 52) rfl)).use rfl) (fun _ h => h) rfl dX8_isWord_40 ?_
            refine lv_aload_n hx hb dX8_isWord_43 rfl (lv_at hl 1 rfl) ?_
            refine va_get (D := G.1) (ci := 8) (v := .int (nI ra)) (C := RX8) (T := TX8) (N := 8) hx hb hts in_X8 hown hK.1 hP 0 rfl rfl 1 (Nat.le_of_ble_eq_true rfl) (hts _ q650) (fun _ h => h) rfl dX8_isWord_44 ?_
            refine lv_iload_n hx hb dX8_isWord_47 rfl (lv_at hl 0 rfl) ?_
            refine zr_iaddN ra s_3 hx hb dX8_isWord_48 ?_
            refine zr_bald (ra + s_3) (v := xtape (ra + s_3)) hx hb hK hP 2 rfl rfl (Nat.le_of_ble_eq_true rfl) rfl (by omega) rfl dX8_isWord_49 ?_
            refine lv_aload_n hx hb dX8_isWord_50 rfl (lv_at hl 2 rfl) ?_
            refine lv_iload_n hx hb dX8_isWord_51 rfl (lv_at hl 0 rfl) ?_
            refine zr_obStr ⟨hx, hb, hml, hown, hts⟩ wi (mt_jf_charAt l G wi hwi s_3 (by omega)) (cwV 1 hts (lw_V q699 q700 q701 q147 q702) rfl rfl rfl hd_J4_charAt ⟨(Nat.le_of_ble_eq_true rfl), (Nat.le_of_ble_eq_true rfl)⟩) hK hE hwi rfl hl.1 rfl (Nat.le_of_ble_eq_true rfl) dX8_isWord_52 ⟨Nat.le_refl _, Nat.le_refl _⟩ ?_
            refine lv_icmp_eq (tgt := 60) hx hb dX8_isWord_55 (by decide) (fun c_5 => ?_) (fun c_5 => ?_)
            · refine lv_iinc (v := nI (s_3 + 1)) (lv' := [(2, .int (nI (s_3 + 1))), (0, .ref rA), (1, .ref (zK G wi))]) hx hb dX8_isWord_60 hl (k := 0) rfl (nI_add s_3 1) (by decide) rfl (fun ls hl => ?_)
              refine lv_goto (tgt := 28) hx hb dX8_isWord_63 (by decide) ?_
              exact ih_3 (s_3 + 1) (by omega) ((zw_l (by rw [rf_isWord_B28, if_neg c_4, if_pos c_5])).symm.trans hR_3) (by omega) ls (lv_sub hl [0, 1, 2] rfl)
            · refine lv_iconst (v := 0) hx hb dX8_isWord_58 (by decide) ?_
              have hr_3 : rf_isWord_L28 ra xtape wi 0 = .inr false := hR_3.symm.trans (zw_r (by rw [rf_isWord_B28, if_neg c_4, if_neg c_5]))
              have e_ : rf_isWord ra rb r_sort xtape wi = false := by rw [rf_isWord, if_pos c_1, if_pos c_2, zcase_r hr_3]
              exact zr_oz hx hb hr hlocks dX8_isWord_59 rfl (congrArg (fun z => Value.int (zb z)) e_)
      exact hlp_3 _ 0 (Nat.lt_succ_self _) (by rw [rf_isWord_L28]) (by omega) ls (lv_sub hl [0, 1, 2] rfl)
    · refine lv_iconst (v := 0) hx hb dX8_isWord_24 (by decide) ?_
      have e_ : rf_isWord ra rb r_sort xtape wi = false := by rw [rf_isWord, if_pos c_1, if_neg c_2]
      exact zr_oz hx hb hr hlocks dX8_isWord_25 rfl (congrArg (fun z => Value.int (zb z)) e_)
