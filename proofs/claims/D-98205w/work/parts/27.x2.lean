def xA_ (G : zG) (xA : Nat) (xa_trays : Nat) (xa_tape : Nat) (x_taped : Int32) (x_faultKind : Int32) (x_faultAt : Int32) (xa_bad : Nat) (xa_refused : Nat) (x_status : Int32) (x_above : Int64) (x_under : Int64) (nA : Nat) (xa_marks : Nat) (x_markMany : Int32) (xa_pictures : Nat) (x_lead : Int32) (x_round : Int32) (xa_ways : Nat) (x_bestSet : Int32) (x_bestMany : Int32) (x_left : Int32) (xa_aside : Nat) (xa_last : Nat) (x_hasLived : Bool) (uA : Nat) (n_year : Option Nat) : va_W := [(xA, .inr (0, [.ref xa_trays, .ref xa_tape, .int x_taped, .int x_faultKind, .int x_faultAt, .ref xa_bad, .ref xa_refused, .int x_status, .long x_above, .long x_under, .ref nA, .ref xa_marks, .int x_markMany, .ref xa_pictures, .int x_lead, .int x_round, .ref xa_ways, .int x_bestSet, .int x_bestMany, .int x_left, .ref xa_aside, .ref xa_last, .int (zb x_hasLived)])), (nA, .inr (4, [.ref uA, va_rf n_year]))]
def xf_isIn (v : Int64) (lo : Int64) (hi : Int64) : Bool :=
  (if v < lo then
    false
  else
    (if hi < v then
      false
    else
      true))
theorem hd_X0_isIn : True ∧ yX0_isIn.cls ≠ "java/lang/invoke/MethodHandle" ∧ yX0_isIn.cls ≠ "java/lang/invoke/VarHandle" ∧ (parseMethodDescriptor yX0_isIn.desc).map (fun d => d.parameters.length) = some 3 := by decide +kernel
set_option maxHeartbeats 4000000 in
set_option maxRecDepth 100000 in
theorem mt_xf_isIn (l : Launch) (v : Int64) (lo : Int64) (hi : Int64) : Met l yX0_isIn (ws_ yX0_isIn cX0_isIn 6 (some .boolean)) (zR 1 0 0) (zPp [.long v, .long lo, .long hi]) (k2_QcV (.int (zb (xf_isIn v lo hi)))) 0 0 (fun _ => False) := by
  refine zr_entP (by decide) (Nat.le_of_ble_eq_true rfl) ?_
  intro p e s m below meth c ⟨hx, hb, hr, hml, hown, hts, hlocks, hnm⟩ ls hl
  have hown : s.vm.findClass RX0 = some m.cls := hown
  have hl : lv_has ls 6 [(0, .long v), (2, .long lo), (4, .long hi)] := hl
  refine lv_lload_n hx hb dX0_isIn_0 rfl (lv_at hl 0 rfl) ?_
  refine lv_lload_n hx hb dX0_isIn_1 rfl (lv_at hl 1 rfl) ?_
  refine W.lcmp hx hb dX0_isIn_2 ?_
  refine zr_llt (tgt := 17) hx hb dX0_isIn_3 (by decide) (fun c_1 => ?_) (fun c_1 => ?_)
  · refine lv_iconst (v := 0) hx hb dX0_isIn_17 (by decide) ?_
    have e_ : xf_isIn v lo hi = false := by rw [xf_isIn, if_pos c_1]
    exact zr_oz hx hb hr hlocks dX0_isIn_18 rfl (congrArg (fun z => Value.int (zb z)) e_)
  · refine lv_lload_n hx hb dX0_isIn_6 rfl (lv_at hl 0 rfl) ?_
    refine lv_lload hx hb dX0_isIn_7 (lv_at hl 2 rfl) ?_
    refine W.lcmp hx hb dX0_isIn_9 ?_
    refine zr_lgt (tgt := 17) hx hb dX0_isIn_10 (by decide) (fun c_2 => ?_) (fun c_2 => ?_)
    · refine lv_iconst (v := 0) hx hb dX0_isIn_17 (by decide) ?_
      have e_ : xf_isIn v lo hi = false := by rw [xf_isIn, if_neg c_1, if_pos c_2]
      exact zr_oz hx hb hr hlocks dX0_isIn_18 rfl (congrArg (fun z => Value.int (zb z)) e_)
    · refine lv_iconst (v := 1) hx hb dX0_isIn_13 (by decide) ?_
      refine lv_goto (tgt := 18) hx hb dX0_isIn_14 (by decide) ?_
      have e_ : xf_isIn v lo hi = true := by rw [xf_isIn, if_neg c_1, if_neg c_2]
      exact zr_oz hx hb hr hlocks dX0_isIn_18 rfl (congrArg (fun z => Value.int (zb z)) e_)
theorem hd_X0_many : True ∧ yX0_many.cls ≠ "java/lang/invoke/MethodHandle" ∧ yX0_many.cls ≠ "java/lang/invoke/VarHandle" ∧ (parseMethodDescriptor yX0_many.desc).map (fun d => d.parameters.length) = some 1 := by decide +kernel
set_option maxHeartbeats 4000000 in
set_option maxRecDepth 100000 in
theorem mt_xf_many (l : Launch) (set_ : Int32) : Met l yX0_many (ws_ yX0_many cX0_many 1 (some .int)) (zR 2 0 0) (zPp [.int set_]) (k2_QcV (.int (nI (zpc set_)))) 0 0 (fun _ => False) := by
  refine zr_entP (by decide) (Nat.le_of_ble_eq_true rfl) ?_
  intro p e s m below meth c ⟨hx, hb, hr, hml, hown, hts, hlocks, hnm⟩ ls hl
  have hown : s.vm.findClass RX0 = some m.cls := hown
  have hl : lv_has ls 1 [(0, .int set_)] := hl
  refine lv_iload_n hx hb dX0_many_0 rfl (lv_at hl 0 rfl) ?_
  refine zr_puS ⟨hx, hb, hml, hown, hts⟩ (mt_bitCountN l set_) (va_cwS 1 hts (lw_S q853 q854 q155 q855) rfl rfl rfl hd_J10_bitCount.2 ⟨(Nat.le_of_ble_eq_true rfl), (Nat.le_of_ble_eq_true rfl)⟩) rfl hl.1 rfl (Nat.le_of_ble_eq_true rfl) dX0_many_1 ⟨Nat.le_refl _, Nat.le_refl _⟩ ?_
  exact zr_oi hx hb hr hlocks dX0_many_4 rfl
def xf_isPicture (pic : Int64) : Bool :=
  (xf_isIn pic 0 1073741823)
theorem hd_X0_isPicture : True ∧ yX0_isPicture.cls ≠ "java/lang/invoke/MethodHandle" ∧ yX0_isPicture.cls ≠ "java/lang/invoke/VarHandle" ∧ (parseMethodDescriptor yX0_isPicture.desc).map (fun d => d.parameters.length) = some 1 := by decide +kernel
set_option maxHeartbeats 4000000 in
set_option maxRecDepth 100000 in
theorem mt_xf_isPicture (l : Launch) (pic : Int64) : Met l yX0_isPicture (ws_ yX0_isPicture cX0_isPicture 2 (some .boolean)) (zR 2 0 0) (zPp [.long pic]) (k2_QcV (.int (zb (xf_isPicture pic)))) 0 0 (fun _ => False) := by
  refine zr_entP (by decide) (Nat.le_of_ble_eq_true rfl) ?_
  intro p e s m below meth c ⟨hx, hb, hr, hml, hown, hts, hlocks, hnm⟩ ls hl
  have hown : s.vm.findClass RX0 = some m.cls := hown
  have hl : lv_has ls 2 [(0, .long pic)] := hl
  refine lv_lload_n hx hb dX0_isPicture_0 rfl (lv_at hl 0 rfl) ?_
  refine lv_lconst (v := 0) hx hb dX0_isPicture_1 rfl ?_
  refine lv_ldc2 (v := 1073741823) hx hb hown (hts _ q1039) dX0_isPicture_2 ?_
  refine zr_puS ⟨hx, hb, hml, hown, hts⟩ (mt_xf_isIn l pic 0 1073741823) (va_cwS 3 hts (lw_S q969 q970 q135 q971) rfl rfl rfl hd_X0_isIn.2 ⟨(Nat.le_of_ble_eq_true rfl), (Nat.le_of_ble_eq_true rfl)⟩) rfl hl.1 rfl (Nat.le_of_ble_eq_true rfl) dX0_isPicture_5 ⟨Nat.le_refl _, Nat.le_refl _⟩ ?_
  have e_ : xf_isPicture pic = xf_isIn pic 0 1073741823 := by rw [xf_isPicture]
  exact zr_oz hx hb hr hlocks dX0_isPicture_8 zb_nar (congrArg (fun z => Value.int (zb z)) e_)
theorem hd_X0_hill : yX0_hill.cls = RX0 ∧ yX0_hill.cls ≠ "java/lang/invoke/MethodHandle" ∧ yX0_hill.cls ≠ "java/lang/invoke/VarHandle" ∧ (parseMethodDescriptor yX0_hill.desc).map (fun d => d.parameters.length) = some 0 := by decide +kernel
set_option maxHeartbeats 4000000 in
set_option maxRecDepth 100000 in
theorem mt_xf_hill (l : Launch) (G : zG) (xA : Nat) (xa_trays : Nat) (xa_tape : Nat) (x_taped : Int32) (x_faultKind : Int32) (x_faultAt : Int32) (xa_bad : Nat) (xa_refused : Nat) (x_status : Int32) (x_above : Int64) (x_under : Int64) (nA : Nat) (xa_marks : Nat) (x_markMany : Int32) (xa_pictures : Nat) (x_lead : Int32) (x_round : Int32) (xa_ways : Nat) (x_bestSet : Int32) (x_bestMany : Int32) (x_left : Int32) (xa_aside : Nat) (xa_last : Nat) (x_hasLived : Bool) (uA : Nat) (n_year : Option Nat) (tA : Nat) (uA_bo : Nat) (uA_st : Nat) (uA_se : Nat) (ulit : Int32) (umayor : Int32) (unight : Int32) (uoil : Int32) (uborn : Nat → Int32) (ustays : Nat → Int32) (useen : Nat → Int32) (tA_be : Nat) (tA_le : Nat) (tA_mo : Nat) (tA_rn : Nat) (tA_cn : Nat) (tA_bo : Nat) (tA_st : Nat) (Wd : Nat) (R : Nat) (thouses : Int32) (talways : Int32) (tnever : Int32) (nr : Nat) (nc : Nat) (tring : Bool) (tbeside : Nat → Int32) (tleast : Nat → Int32) (tmost : Nat → Int32) (trnames : Nat → Int64) (hT : tOK Wd R nr nc) : Met l yX0_hill (ws_ yX0_hill cX0_hill 1 (some (.object "WindowHill$Hill"))) (zR 1 0 0) (zPo G [.ref xA] ((xA_ G xA xa_trays xa_tape x_taped x_faultKind x_faultAt xa_bad xa_refused x_status x_above x_under nA xa_marks x_markMany xa_pictures x_lead x_round xa_ways x_bestSet x_bestMany x_left xa_aside xa_last x_hasLived uA n_year) ++ (hW G uA tA uA_bo uA_st uA_se ulit umayor unight uoil uborn ustays useen) ++ (tW G tA tA_be tA_le tA_mo tA_rn tA_cn tA_bo tA_st (nI Wd) (nI R) thouses talways tnever (nI nr) (nI nc) tring tbeside tleast tmost trnames))) (k2_QcV (.ref uA)) 0 0 (fun _ => False) := by
  refine zr_entO (by decide) (Nat.le_of_ble_eq_true rfl) ?_
  intro p e s m below meth c ⟨hx, hb, hr, hml, hown, hts, hlocks, hnm⟩ ls hl hP hK hE
  have hown : s.vm.findClass RX0 = some m.cls := hown
  have hl : lv_has ls 1 [(0, .ref xA)] := hl
  have hTT := hT
  obtain ⟨hW0, hW5, hR0, hR6, hn4, hc6, hWR⟩ := hTT
  refine lv_aload_n hx hb dX0_hill_0 rfl (lv_at hl 0 rfl) ?_
  refine va_get (D := G.1) (ci := 0) (v := .ref nA) (C := RX0) (T := TX0) (N := 23) hx hb hts in_X0 hown hK.1 hP 0 rfl rfl 10 (Nat.le_of_ble_eq_true rfl) (hts _ q435) (fun _ h => h) rfl dX0_hill_1 ?_
  refine va_getN (D := G.1) (ci := 4) (v := .ref uA) (C := RX4) (T := TX4) (N := 2) hx hb hts in_X4 hown hK.1 hP 1 rfl rfl 0 (Nat.le_of_ble_eq_true rfl) ((hK.2.1.1 _ (List.mem_of_getElem? (i := 2) rfl)).use rfl) (fun _ h => h) rfl dX0_hill_4 ?_
  exact zr_oa hx hb hr hlocks dX0_hill_7 rfl
theorem hd_X0_at : yX0_at.cls = RX0 ∧ yX0_at.cls ≠ "java/lang/invoke/MethodHandle" ∧ yX0_at.cls ≠ "java/lang/invoke/VarHandle" ∧ (parseMethodDescriptor yX0_at.desc).map (fun d => d.parameters.length) = some 0 := by decide +kernel
set_option maxHeartbeats 4000000 in
set_option maxRecDepth 100000 in
theorem mt_xf_at (l : Launch) (G : zG) (xA : Nat) (xa_trays : Nat) (xa_tape : Nat) (x_taped : Int32) (x_faultKind : Int32) (x_faultAt : Int32) (xa_bad : Nat) (xa_refused : Nat) (x_status : Int32) (x_above : Int64) (x_under : Int64) (nA : Nat) (xa_marks : Nat) (x_markMany : Int32) (xa_pictures : Nat) (x_lead : Int32) (x_round : Int32) (xa_ways : Nat) (x_bestSet : Int32) (x_bestMany : Int32) (x_left : Int32) (xa_aside : Nat) (xa_last : Nat) (x_hasLived : Bool) (uA : Nat) (n_year : Option Nat) (tA : Nat) (uA_bo : Nat) (uA_st : Nat) (uA_se : Nat) (ulit : Int32) (umayor : Int32) (unight : Int32) (uoil : Int32) (uborn : Nat → Int32) (ustays : Nat → Int32) (useen : Nat → Int32) (tA_be : Nat) (tA_le : Nat) (tA_mo : Nat) (tA_rn : Nat) (tA_cn : Nat) (tA_bo : Nat) (tA_st : Nat) (Wd : Nat) (R : Nat) (thouses : Int32) (talways : Int32) (tnever : Int32) (nr : Nat) (nc : Nat) (tring : Bool) (tbeside : Nat → Int32) (tleast : Nat → Int32) (tmost : Nat → Int32) (trnames : Nat → Int64) (hT : tOK Wd R nr nc) : Met l yX0_at (ws_ yX0_at cX0_at 1 (some (.object "WindowHill$Town"))) (zR 1 0 0) (zPo G [.ref xA] ((xA_ G xA xa_trays xa_tape x_taped x_faultKind x_faultAt xa_bad xa_refused x_status x_above x_under nA xa_marks x_markMany xa_pictures x_lead x_round xa_ways x_bestSet x_bestMany x_left xa_aside xa_last x_hasLived uA n_year) ++ (hW G uA tA uA_bo uA_st uA_se ulit umayor unight uoil uborn ustays useen) ++ (tW G tA tA_be tA_le tA_mo tA_rn tA_cn tA_bo tA_st (nI Wd) (nI R) thouses talways tnever (nI nr) (nI nc) tring tbeside tleast tmost trnames))) (k2_QcV (.ref tA)) 0 0 (fun _ => False) := by
  refine zr_entO (by decide) (Nat.le_of_ble_eq_true rfl) ?_
  intro p e s m below meth c ⟨hx, hb, hr, hml, hown, hts, hlocks, hnm⟩ ls hl hP hK hE
  have hown : s.vm.findClass RX0 = some m.cls := hown
  have hl : lv_has ls 1 [(0, .ref xA)] := hl
  have hTT := hT
  obtain ⟨hW0, hW5, hR0, hR6, hn4, hc6, hWR⟩ := hTT
  refine lv_aload_n hx hb dX0_at_0 rfl (lv_at hl 0 rfl) ?_
  refine va_get (D := G.1) (ci := 0) (v := .ref nA) (C := RX0) (T := TX0) (N := 23) hx hb hts in_X0 hown hK.1 hP 0 rfl rfl 10 (Nat.le_of_ble_eq_true rfl) (hts _ q435) (fun _ h => h) rfl dX0_at_1 ?_
  refine va_getN (D := G.1) (ci := 4) (v := .ref uA) (C := RX4) (T := TX4) (N := 2) hx hb hts in_X4 hown hK.1 hP 1 rfl rfl 0 (Nat.le_of_ble_eq_true rfl) ((hK.2.1.1 _ (List.mem_of_getElem? (i := 2) rfl)).use rfl) (fun _ h => h) rfl dX0_at_4 ?_
  refine va_getN (D := G.1) (ci := 5) (v := .ref tA) (C := RX5) (T := TX5) (N := 8) hx hb hts in_X5 hown hK.1 hP 2 rfl rfl 0 (Nat.le_of_ble_eq_true rfl) ((hK.2.1.1 _ (List.mem_of_getElem? (i := 3) rfl)).use rfl) (fun _ h => h) rfl dX0_at_7 ?_
  exact zr_oa hx hb hr hlocks dX0_at_10 rfl
def xf_isPlace (Wd : Nat) (R : Nat) (x : Int32) (y : Int32) : Bool :=
  (if (xf_isIn x.toInt64 0 (((nI Wd) - 1).toInt64)) = true then
    (if (xf_isIn y.toInt64 0 (((nI R) - 1).toInt64)) = true then
      true
    else
      false)
  else
    false)
theorem hd_X0_isPlace : yX0_isPlace.cls = RX0 ∧ yX0_isPlace.cls ≠ "java/lang/invoke/MethodHandle" ∧ yX0_isPlace.cls ≠ "java/lang/invoke/VarHandle" ∧ (parseMethodDescriptor yX0_isPlace.desc).map (fun d => d.parameters.length) = some 2 := by decide +kernel
set_option maxHeartbeats 4000000 in
set_option maxRecDepth 100000 in
theorem mt_xf_isPlace (l : Launch) (G : zG) (xA : Nat) (xa_trays : Nat) (xa_tape : Nat) (x_taped : Int32) (x_faultKind : Int32) (x_faultAt : Int32) (xa_bad : Nat) (xa_refused : Nat) (x_status : Int32) (x_above : Int64) (x_under : Int64) (nA : Nat) (xa_marks : Nat) (x_markMany : Int32) (xa_pictures : Nat) (x_lead : Int32) (x_round : Int32) (xa_ways : Nat) (x_bestSet : Int32) (x_bestMany : Int32) (x_left : Int32) (xa_aside : Nat) (xa_last : Nat) (x_hasLived : Bool) (uA : Nat) (n_year : Option Nat) (tA : Nat) (uA_bo : Nat) (uA_st : Nat) (uA_se : Nat) (ulit : Int32) (umayor : Int32) (unight : Int32) (uoil : Int32) (uborn : Nat → Int32) (ustays : Nat → Int32) (useen : Nat → Int32) (tA_be : Nat) (tA_le : Nat) (tA_mo : Nat) (tA_rn : Nat) (tA_cn : Nat) (tA_bo : Nat) (tA_st : Nat) (Wd : Nat) (R : Nat) (thouses : Int32) (talways : Int32) (tnever : Int32) (nr : Nat) (nc : Nat) (tring : Bool) (tbeside : Nat → Int32) (tleast : Nat → Int32) (tmost : Nat → Int32) (trnames : Nat → Int64) (x : Int32) (y : Int32) (hT : tOK Wd R nr nc) : Met l yX0_isPlace (ws_ yX0_isPlace cX0_isPlace 3 (some .boolean)) (zR 2 0 0) (zPo G [.ref xA, .int x, .int y] ((xA_ G xA xa_trays xa_tape x_taped x_faultKind x_faultAt xa_bad xa_refused x_status x_above x_under nA xa_marks x_markMany xa_pictures x_lead x_round xa_ways x_bestSet x_bestMany x_left xa_aside xa_last x_hasLived uA n_year) ++ (hW G uA tA uA_bo uA_st uA_se ulit umayor unight uoil uborn ustays useen) ++ (tW G tA tA_be tA_le tA_mo tA_rn tA_cn tA_bo tA_st (nI Wd) (nI R) thouses talways tnever (nI nr) (nI nc) tring tbeside tleast tmost trnames))) (k2_QcV (.int (zb (xf_isPlace Wd R x y)))) 0 0 (fun _ => False) := by
  refine zr_entO (by decide) (Nat.le_of_ble_eq_true rfl) ?_
  intro p e s m below meth c ⟨hx, hb, hr, hml, hown, hts, hlocks, hnm⟩ ls hl hP hK hE
  have hown : s.vm.findClass RX0 = some m.cls := hown
  have hl : lv_has ls 3 [(0, .ref xA), (1, .int x), (2, .int y)] := hl
  have hTT := hT
  obtain ⟨hW0, hW5, hR0, hR6, hn4, hc6, hWR⟩ := hTT
  refine lv_iload_n hx hb dX0_isPlace_0 rfl (lv_at hl 1 rfl) ?_
  refine lv_i2l hx hb dX0_isPlace_1 rfl ?_
  refine lv_lconst (v := 0) hx hb dX0_isPlace_2 rfl ?_
  refine lv_aload_n hx hb dX0_isPlace_3 rfl (lv_at hl 0 rfl) ?_
  refine zr_obV ⟨hx, hb, hml, hown, hts⟩ (mt_xf_at l G xA xa_trays xa_tape x_taped x_faultKind x_faultAt xa_bad xa_refused x_status x_above x_under nA xa_marks x_markMany xa_pictures x_lead x_round xa_ways x_bestSet x_bestMany x_left xa_aside xa_last x_hasLived uA n_year tA uA_bo uA_st uA_se ulit umayor unight uoil uborn ustays useen tA_be tA_le tA_mo tA_rn tA_cn tA_bo tA_st Wd R thouses talways tnever nr nc tring tbeside tleast tmost trnames hT) (cwV 0 hts (lw_V q891 q893 qs28 q135 q894) rfl rfl rfl hd_X0_at ⟨(Nat.le_of_ble_eq_true rfl), (Nat.le_of_ble_eq_true rfl)⟩) hP hK hE 0 0 rfl rfl rfl hl.1 rfl (Nat.le_of_ble_eq_true rfl) dX0_isPlace_4 ⟨Nat.le_refl _, Nat.le_refl _⟩ ?_
  refine va_getN (D := G.1) (ci := 6) (v := .int (nI Wd)) (C := RX6) (T := TX6) (N := 15) hx hb hts in_X6 hown hK.1 hP 6 rfl rfl 0 (Nat.le_of_ble_eq_true rfl) ((hK.2.1.1 _ (List.mem_of_getElem? (i := 4) rfl)).use rfl) (fun _ h => h) rfl dX0_isPlace_7 ?_
  refine lv_iconst (v := 1) hx hb dX0_isPlace_10 (by decide) ?_
  refine lv_isub hx hb dX0_isPlace_11 ?_
  refine lv_i2l hx hb dX0_isPlace_12 rfl ?_
  refine zr_puS ⟨hx, hb, hml, hown, hts⟩ (mt_xf_isIn l x.toInt64 0 (((nI Wd) - 1).toInt64)) (va_cwS 3 hts (lw_S q969 q970 q135 q971) rfl rfl rfl hd_X0_isIn.2 ⟨(Nat.le_of_ble_eq_true rfl), (Nat.le_of_ble_eq_true rfl)⟩) rfl hl.1 rfl (Nat.le_of_ble_eq_true rfl) dX0_isPlace_13 ⟨Nat.le_refl _, Nat.le_refl _⟩ ?_
  refine zr_eqB (xf_isIn x.toInt64 0 (((nI Wd) - 1).toInt64)) (tgt := 42) hx hb dX0_isPlace_16 (by decide) (fun c_1 => ?_) (fun c_1 => ?_)
  · refine lv_iconst (v := 0) hx hb dX0_isPlace_42 (by decide) ?_
    have e_ : xf_isPlace Wd R x y = false := by rw [xf_isPlace, if_neg c_1]
    exact zr_oz hx hb hr hlocks dX0_isPlace_43 rfl (congrArg (fun z => Value.int (zb z)) e_)
  · refine lv_iload_n hx hb dX0_isPlace_19 rfl (lv_at hl 2 rfl) ?_
    refine lv_i2l hx hb dX0_isPlace_20 rfl ?_
    refine lv_lconst (v := 0) hx hb dX0_isPlace_21 rfl ?_
    refine lv_aload_n hx hb dX0_isPlace_22 rfl (lv_at hl 0 rfl) ?_
    refine zr_obV ⟨hx, hb, hml, hown, hts⟩ (mt_xf_at l G xA xa_trays xa_tape x_taped x_faultKind x_faultAt xa_bad xa_refused x_status x_above x_under nA xa_marks x_markMany xa_pictures x_lead x_round xa_ways x_bestSet x_bestMany x_left xa_aside xa_last x_hasLived uA n_year tA uA_bo uA_st uA_se ulit umayor unight uoil uborn ustays useen tA_be tA_le tA_mo tA_rn tA_cn tA_bo tA_st Wd R thouses talways tnever nr nc tring tbeside tleast tmost trnames hT) (cwV 0 hts (lw_V q891 q893 qs28 q135 q894) rfl rfl rfl hd_X0_at ⟨(Nat.le_of_ble_eq_true rfl), (Nat.le_of_ble_eq_true rfl)⟩) hP hK hE 0 0 rfl rfl rfl hl.1 rfl (Nat.le_of_ble_eq_true rfl) dX0_isPlace_23 ⟨Nat.le_refl _, Nat.le_refl _⟩ ?_
    refine va_getN (D := G.1) (ci := 6) (v := .int (nI R)) (C := RX6) (T := TX6) (N := 15) hx hb hts in_X6 hown hK.1 hP 6 rfl rfl 1 (Nat.le_of_ble_eq_true rfl) ((hK.2.1.1 _ (List.mem_of_getElem? (i := 5) rfl)).use rfl) (fun _ h => h) rfl dX0_isPlace_26 ?_
    refine lv_iconst (v := 1) hx hb dX0_isPlace_29 (by decide) ?_
    refine lv_isub hx hb dX0_isPlace_30 ?_
    refine lv_i2l hx hb dX0_isPlace_31 rfl ?_
    refine zr_puS ⟨hx, hb, hml, hown, hts⟩ (mt_xf_isIn l y.toInt64 0 (((nI R) - 1).toInt64)) (va_cwS 3 hts (lw_S q969 q970 q135 q971) rfl rfl rfl hd_X0_isIn.2 ⟨(Nat.le_of_ble_eq_true rfl), (Nat.le_of_ble_eq_true rfl)⟩) rfl hl.1 rfl (Nat.le_of_ble_eq_true rfl) dX0_isPlace_32 ⟨Nat.le_refl _, Nat.le_refl _⟩ ?_
    refine zr_eqB (xf_isIn y.toInt64 0 (((nI R) - 1).toInt64)) (tgt := 42) hx hb dX0_isPlace_35 (by decide) (fun c_2 => ?_) (fun c_2 => ?_)
    · refine lv_iconst (v := 0) hx hb dX0_isPlace_42 (by decide) ?_
      have e_ : xf_isPlace Wd R x y = false := by rw [xf_isPlace, if_pos c_1, if_neg c_2]
      exact zr_oz hx hb hr hlocks dX0_isPlace_43 rfl (congrArg (fun z => Value.int (zb z)) e_)
    · refine lv_iconst (v := 1) hx hb dX0_isPlace_38 (by decide) ?_
      refine lv_goto (tgt := 43) hx hb dX0_isPlace_39 (by decide) ?_
      have e_ : xf_isPlace Wd R x y = true := by rw [xf_isPlace, if_pos c_1, if_pos c_2]
      exact zr_oz hx hb hr hlocks dX0_isPlace_43 rfl (congrArg (fun z => Value.int (zb z)) e_)
def xf_isRule (nr : Nat) (ru : Int32) : Bool :=
  (xf_isIn ru.toInt64 0 (((nI nr) - 1).toInt64))
theorem hd_X0_isRule : yX0_isRule.cls = RX0 ∧ yX0_isRule.cls ≠ "java/lang/invoke/MethodHandle" ∧ yX0_isRule.cls ≠ "java/lang/invoke/VarHandle" ∧ (parseMethodDescriptor yX0_isRule.desc).map (fun d => d.parameters.length) = some 1 := by decide +kernel
set_option maxHeartbeats 4000000 in
set_option maxRecDepth 100000 in
theorem mt_xf_isRule (l : Launch) (G : zG) (xA : Nat) (xa_trays : Nat) (xa_tape : Nat) (x_taped : Int32) (x_faultKind : Int32) (x_faultAt : Int32) (xa_bad : Nat) (xa_refused : Nat) (x_status : Int32) (x_above : Int64) (x_under : Int64) (nA : Nat) (xa_marks : Nat) (x_markMany : Int32) (xa_pictures : Nat) (x_lead : Int32) (x_round : Int32) (xa_ways : Nat) (x_bestSet : Int32) (x_bestMany : Int32) (x_left : Int32) (xa_aside : Nat) (xa_last : Nat) (x_hasLived : Bool) (uA : Nat) (n_year : Option Nat) (tA : Nat) (uA_bo : Nat) (uA_st : Nat) (uA_se : Nat) (ulit : Int32) (umayor : Int32) (unight : Int32) (uoil : Int32) (uborn : Nat → Int32) (ustays : Nat → Int32) (useen : Nat → Int32) (tA_be : Nat) (tA_le : Nat) (tA_mo : Nat) (tA_rn : Nat) (tA_cn : Nat) (tA_bo : Nat) (tA_st : Nat) (Wd : Nat) (R : Nat) (thouses : Int32) (talways : Int32) (tnever : Int32) (nr : Nat) (nc : Nat) (tring : Bool) (tbeside : Nat → Int32) (tleast : Nat → Int32) (tmost : Nat → Int32) (trnames : Nat → Int64) (ru : Int32) (hT : tOK Wd R nr nc) : Met l yX0_isRule (ws_ yX0_isRule cX0_isRule 2 (some .boolean)) (zR 2 0 0) (zPo G [.ref xA, .int ru] ((xA_ G xA xa_trays xa_tape x_taped x_faultKind x_faultAt xa_bad xa_refused x_status x_above x_under nA xa_marks x_markMany xa_pictures x_lead x_round xa_ways x_bestSet x_bestMany x_left xa_aside xa_last x_hasLived uA n_year) ++ (hW G uA tA uA_bo uA_st uA_se ulit umayor unight uoil uborn ustays useen) ++ (tW G tA tA_be tA_le tA_mo tA_rn tA_cn tA_bo tA_st (nI Wd) (nI R) thouses talways tnever (nI nr) (nI nc) tring tbeside tleast tmost trnames))) (k2_QcV (.int (zb (xf_isRule nr ru)))) 0 0 (fun _ => False) := by
  refine zr_entO (by decide) (Nat.le_of_ble_eq_true rfl) ?_
  intro p e s m below meth c ⟨hx, hb, hr, hml, hown, hts, hlocks, hnm⟩ ls hl hP hK hE
  have hown : s.vm.findClass RX0 = some m.cls := hown
  have hl : lv_has ls 2 [(0, .ref xA), (1, .int ru)] := hl
  have hTT := hT
  obtain ⟨hW0, hW5, hR0, hR6, hn4, hc6, hWR⟩ := hTT
  refine lv_iload_n hx hb dX0_isRule_0 rfl (lv_at hl 1 rfl) ?_
  refine lv_i2l hx hb dX0_isRule_1 rfl ?_
  refine lv_lconst (v := 0) hx hb dX0_isRule_2 rfl ?_
  refine lv_aload_n hx hb dX0_isRule_3 rfl (lv_at hl 0 rfl) ?_
  refine zr_obV ⟨hx, hb, hml, hown, hts⟩ (mt_xf_at l G xA xa_trays xa_tape x_taped x_faultKind x_faultAt xa_bad xa_refused x_status x_above x_under nA xa_marks x_markMany xa_pictures x_lead x_round xa_ways x_bestSet x_bestMany x_left xa_aside xa_last x_hasLived uA n_year tA uA_bo uA_st uA_se ulit umayor unight uoil uborn ustays useen tA_be tA_le tA_mo tA_rn tA_cn tA_bo tA_st Wd R thouses talways tnever nr nc tring tbeside tleast tmost trnames hT) (cwV 0 hts (lw_V q891 q893 qs28 q135 q894) rfl rfl rfl hd_X0_at ⟨(Nat.le_of_ble_eq_true rfl), (Nat.le_of_ble_eq_true rfl)⟩) hP hK hE 0 0 rfl rfl rfl hl.1 rfl (Nat.le_of_ble_eq_true rfl) dX0_isRule_4 ⟨Nat.le_refl _, Nat.le_refl _⟩ ?_
  refine va_getN (D := G.1) (ci := 6) (v := .int (nI nr)) (C := RX6) (T := TX6) (N := 15) hx hb hts in_X6 hown hK.1 hP 6 rfl rfl 5 (Nat.le_of_ble_eq_true rfl) ((hK.2.1.1 _ (List.mem_of_getElem? (i := 6) rfl)).use rfl) (fun _ h => h) rfl dX0_isRule_7 ?_
  refine lv_iconst (v := 1) hx hb dX0_isRule_10 (by decide) ?_
  refine lv_isub hx hb dX0_isRule_11 ?_
  refine lv_i2l hx hb dX0_isRule_12 rfl ?_
  refine zr_puS ⟨hx, hb, hml, hown, hts⟩ (mt_xf_isIn l ru.toInt64 0 (((nI nr) - 1).toInt64)) (va_cwS 3 hts (lw_S q969 q970 q135 q971) rfl rfl rfl hd_X0_isIn.2 ⟨(Nat.le_of_ble_eq_true rfl), (Nat.le_of_ble_eq_true rfl)⟩) rfl hl.1 rfl (Nat.le_of_ble_eq_true rfl) dX0_isRule_13 ⟨Nat.le_refl _, Nat.le_refl _⟩ ?_
  have e_ : xf_isRule nr ru = xf_isIn ru.toInt64 0 (((nI nr) - 1).toInt64) := by rw [xf_isRule]
  exact zr_oz hx hb hr hlocks dX0_isRule_16 zb_nar (congrArg (fun z => Value.int (zb z)) e_)
def xf_isCitizen (nc : Nat) (ci : Int32) : Bool :=
  (xf_isIn ci.toInt64 0 (((nI nc) - 1).toInt64))
theorem hd_X0_isCitizen : yX0_isCitizen.cls = RX0 ∧ yX0_isCitizen.cls ≠ "java/lang/invoke/MethodHandle" ∧ yX0_isCitizen.cls ≠ "java/lang/invoke/VarHandle" ∧ (parseMethodDescriptor yX0_isCitizen.desc).map (fun d => d.parameters.length) = some 1 := by decide +kernel
set_option maxHeartbeats 4000000 in
set_option maxRecDepth 100000 in
theorem mt_xf_isCitizen (l : Launch) (G : zG) (xA : Nat) (xa_trays : Nat) (xa_tape : Nat) (x_taped : Int32) (x_faultKind : Int32) (x_faultAt : Int32) (xa_bad : Nat) (xa_refused : Nat) (x_status : Int32) (x_above : Int64) (x_under : Int64) (nA : Nat) (xa_marks : Nat) (x_markMany : Int32) (xa_pictures : Nat) (x_lead : Int32) (x_round : Int32) (xa_ways : Nat) (x_bestSet : Int32) (x_bestMany : Int32) (x_left : Int32) (xa_aside : Nat) (xa_last : Nat) (x_hasLived : Bool) (uA : Nat) (n_year : Option Nat) (tA : Nat) (uA_bo : Nat) (uA_st : Nat) (uA_se : Nat) (ulit : Int32) (umayor : Int32) (unight : Int32) (uoil : Int32) (uborn : Nat → Int32) (ustays : Nat → Int32) (useen : Nat → Int32) (tA_be : Nat) (tA_le : Nat) (tA_mo : Nat) (tA_rn : Nat) (tA_cn : Nat) (tA_bo : Nat) (tA_st : Nat) (Wd : Nat) (R : Nat) (thouses : Int32) (talways : Int32) (tnever : Int32) (nr : Nat) (nc : Nat) (tring : Bool) (tbeside : Nat → Int32) (tleast : Nat → Int32) (tmost : Nat → Int32) (trnames : Nat → Int64) (ci : Int32) (hT : tOK Wd R nr nc) : Met l yX0_isCitizen (ws_ yX0_isCitizen cX0_isCitizen 2 (some .boolean)) (zR 2 0 0) (zPo G [.ref xA, .int ci] ((xA_ G xA xa_trays xa_tape x_taped x_faultKind x_faultAt xa_bad xa_refused x_status x_above x_under nA xa_marks x_markMany xa_pictures x_lead x_round xa_ways x_bestSet x_bestMany x_left xa_aside xa_last x_hasLived uA n_year) ++ (hW G uA tA uA_bo uA_st uA_se ulit umayor unight uoil uborn ustays useen) ++ (tW G tA tA_be tA_le tA_mo tA_rn tA_cn tA_bo tA_st (nI Wd) (nI R) thouses talways tnever (nI nr) (nI nc) tring tbeside tleast tmost trnames))) (k2_QcV (.int (zb (xf_isCitizen nc ci)))) 0 0 (fun _ => False) := by
  refine zr_entO (by decide) (Nat.le_of_ble_eq_true rfl) ?_
  intro p e s m below meth c ⟨hx, hb, hr, hml, hown, hts, hlocks, hnm⟩ ls hl hP hK hE
  have hown : s.vm.findClass RX0 = some m.cls := hown
  have hl : lv_has ls 2 [(0, .ref xA), (1, .int ci)] := hl
  have hTT := hT
  obtain ⟨hW0, hW5, hR0, hR6, hn4, hc6, hWR⟩ := hTT
  refine lv_iload_n hx hb dX0_isCitizen_0 rfl (lv_at hl 1 rfl) ?_
  refine lv_i2l hx hb dX0_isCitizen_1 rfl ?_
  refine lv_lconst (v := 0) hx hb dX0_isCitizen_2 rfl ?_
  refine lv_aload_n hx hb dX0_isCitizen_3 rfl (lv_at hl 0 rfl) ?_
  refine zr_obV ⟨hx, hb, hml, hown, hts⟩ (mt_xf_at l G xA xa_trays xa_tape x_taped x_faultKind x_faultAt xa_bad xa_refused x_status x_above x_under nA xa_marks x_markMany xa_pictures x_lead x_round xa_ways x_bestSet x_bestMany x_left xa_aside xa_last x_hasLived uA n_year tA uA_bo uA_st uA_se ulit umayor unight uoil uborn ustays useen tA_be tA_le tA_mo tA_rn tA_cn tA_bo tA_st Wd R thouses talways tnever nr nc tring tbeside tleast tmost trnames hT) (cwV 0 hts (lw_V q891 q893 qs28 q135 q894) rfl rfl rfl hd_X0_at ⟨(Nat.le_of_ble_eq_true rfl), (Nat.le_of_ble_eq_true rfl)⟩) hP hK hE 0 0 rfl rfl rfl hl.1 rfl (Nat.le_of_ble_eq_true rfl) dX0_isCitizen_4 ⟨Nat.le_refl _, Nat.le_refl _⟩ ?_
  refine va_getN (D := G.1) (ci := 6) (v := .int (nI nc)) (C := RX6) (T := TX6) (N := 15) hx hb hts in_X6 hown hK.1 hP 6 rfl rfl 6 (Nat.le_of_ble_eq_true rfl) ((hK.2.1.1 _ (List.mem_of_getElem? (i := 7) rfl)).use rfl) (fun _ h => h) rfl dX0_isCitizen_7 ?_
  refine lv_iconst (v := 1) hx hb dX0_isCitizen_10 (by decide) ?_
  refine lv_isub hx hb dX0_isCitizen_11 ?_
  refine lv_i2l hx hb dX0_isCitizen_12 rfl ?_
  refine zr_puS ⟨hx, hb, hml, hown, hts⟩ (mt_xf_isIn l ci.toInt64 0 (((nI nc) - 1).toInt64)) (va_cwS 3 hts (lw_S q969 q970 q135 q971) rfl rfl rfl hd_X0_isIn.2 ⟨(Nat.le_of_ble_eq_true rfl), (Nat.le_of_ble_eq_true rfl)⟩) rfl hl.1 rfl (Nat.le_of_ble_eq_true rfl) dX0_isCitizen_13 ⟨Nat.le_refl _, Nat.le_refl _⟩ ?_
  have e_ : xf_isCitizen nc ci = xf_isIn ci.toInt64 0 (((nI nc) - 1).toInt64) := by rw [xf_isCitizen]
  exact zr_oz hx hb hr hlocks dX0_isCitizen_16 zb_nar (congrArg (fun z => Value.int (zb z)) e_)
def xf_whyNoHouse (Wd : Nat) (R : Nat) (thouses : Int32) (x : Int32) (y : Int32) : Int32 :=
  (if (xf_isPlace Wd R x y) = true then
    (if (tf_isHouse thouses (nI Wd * y + x)) = true then
      0
    else
      7)
  else
    1)
theorem hd_X0_whyNoHouse : yX0_whyNoHouse.cls = RX0 ∧ yX0_whyNoHouse.cls ≠ "java/lang/invoke/MethodHandle" ∧ yX0_whyNoHouse.cls ≠ "java/lang/invoke/VarHandle" ∧ (parseMethodDescriptor yX0_whyNoHouse.desc).map (fun d => d.parameters.length) = some 2 := by decide +kernel
set_option maxHeartbeats 4000000 in
set_option maxRecDepth 100000 in
theorem mt_xf_whyNoHouse (l : Launch) (G : zG) (xA : Nat) (xa_trays : Nat) (xa_tape : Nat) (x_taped : Int32) (x_faultKind : Int32) (x_faultAt : Int32) (xa_bad : Nat) (xa_refused : Nat) (x_status : Int32) (x_above : Int64) (x_under : Int64) (nA : Nat) (xa_marks : Nat) (x_markMany : Int32) (xa_pictures : Nat) (x_lead : Int32) (x_round : Int32) (xa_ways : Nat) (x_bestSet : Int32) (x_bestMany : Int32) (x_left : Int32) (xa_aside : Nat) (xa_last : Nat) (x_hasLived : Bool) (uA : Nat) (n_year : Option Nat) (tA : Nat) (uA_bo : Nat) (uA_st : Nat) (uA_se : Nat) (ulit : Int32) (umayor : Int32) (unight : Int32) (uoil : Int32) (uborn : Nat → Int32) (ustays : Nat → Int32) (useen : Nat → Int32) (tA_be : Nat) (tA_le : Nat) (tA_mo : Nat) (tA_rn : Nat) (tA_cn : Nat) (tA_bo : Nat) (tA_st : Nat) (Wd : Nat) (R : Nat) (thouses : Int32) (talways : Int32) (tnever : Int32) (nr : Nat) (nc : Nat) (tring : Bool) (tbeside : Nat → Int32) (tleast : Nat → Int32) (tmost : Nat → Int32) (trnames : Nat → Int64) (x : Int32) (y : Int32) (hT : tOK Wd R nr nc) : Met l yX0_whyNoHouse (ws_ yX0_whyNoHouse cX0_whyNoHouse 3 (some .int)) (zR 3 0 0) (zPo G [.ref xA, .int x, .int y] ((xA_ G xA xa_trays xa_tape x_taped x_faultKind x_faultAt xa_bad xa_refused x_status x_above x_under nA xa_marks x_markMany xa_pictures x_lead x_round xa_ways x_bestSet x_bestMany x_left xa_aside xa_last x_hasLived uA n_year) ++ (hW G uA tA uA_bo uA_st uA_se ulit umayor unight uoil uborn ustays useen) ++ (tW G tA tA_be tA_le tA_mo tA_rn tA_cn tA_bo tA_st (nI Wd) (nI R) thouses talways tnever (nI nr) (nI nc) tring tbeside tleast tmost trnames))) (k2_QcV (.int (xf_whyNoHouse Wd R thouses x y))) 0 0 (fun _ => False) := by
  refine zr_entO (by decide) (Nat.le_of_ble_eq_true rfl) ?_
  intro p e s m below meth c ⟨hx, hb, hr, hml, hown, hts, hlocks, hnm⟩ ls hl hP hK hE
  have hown : s.vm.findClass RX0 = some m.cls := hown
  have hl : lv_has ls 3 [(0, .ref xA), (1, .int x), (2, .int y)] := hl
  have hTT := hT
  obtain ⟨hW0, hW5, hR0, hR6, hn4, hc6, hWR⟩ := hTT
  refine lv_aload_n hx hb dX0_whyNoHouse_0 rfl (lv_at hl 0 rfl) ?_
  refine lv_iload_n hx hb dX0_whyNoHouse_1 rfl (lv_at hl 1 rfl) ?_
  refine lv_iload_n hx hb dX0_whyNoHouse_2 rfl (lv_at hl 2 rfl) ?_
  refine zr_obV ⟨hx, hb, hml, hown, hts⟩ (mt_xf_isPlace l G xA xa_trays xa_tape x_taped x_faultKind x_faultAt xa_bad xa_refused x_status x_above x_under nA xa_marks x_markMany xa_pictures x_lead x_round xa_ways x_bestSet x_bestMany x_left xa_aside xa_last x_hasLived uA n_year tA uA_bo uA_st uA_se ulit umayor unight uoil uborn ustays useen tA_be tA_le tA_mo tA_rn tA_cn tA_bo tA_st Wd R thouses talways tnever nr nc tring tbeside tleast tmost trnames x y hT) (cwV 2 hts (lw_V q994 q996 qs36 q135 q997) rfl rfl rfl hd_X0_isPlace ⟨(Nat.le_of_ble_eq_true rfl), (Nat.le_of_ble_eq_true rfl)⟩) hP hK hE 0 0 rfl rfl rfl hl.1 rfl (Nat.le_of_ble_eq_true rfl) dX0_whyNoHouse_3 ⟨Nat.le_refl _, Nat.le_refl _⟩ ?_
  refine zr_neB (xf_isPlace Wd R x y) (tgt := 13) hx hb dX0_whyNoHouse_6 (by decide) (fun c_1 => ?_) (fun c_1 => ?_)
  · refine lv_aload_n hx hb dX0_whyNoHouse_13 rfl (lv_at hl 0 rfl) ?_
    refine zr_obV ⟨hx, hb, hml, hown, hts⟩ (mt_xf_at l G xA xa_trays xa_tape x_taped x_faultKind x_faultAt xa_bad xa_refused x_status x_above x_under nA xa_marks x_markMany xa_pictures x_lead x_round xa_ways x_bestSet x_bestMany x_left xa_aside xa_last x_hasLived uA n_year tA uA_bo uA_st uA_se ulit umayor unight uoil uborn ustays useen tA_be tA_le tA_mo tA_rn tA_cn tA_bo tA_st Wd R thouses talways tnever nr nc tring tbeside tleast tmost trnames hT) (cwV 0 hts (lw_V q891 q893 qs28 q135 q894) rfl rfl rfl hd_X0_at ⟨(Nat.le_of_ble_eq_true rfl), (Nat.le_of_ble_eq_true rfl)⟩) hP hK hE 0 0 rfl rfl rfl hl.1 rfl (Nat.le_of_ble_eq_true rfl) dX0_whyNoHouse_14 ⟨Nat.le_refl _, Nat.le_refl _⟩ ?_
    refine lv_aload_n hx hb dX0_whyNoHouse_17 rfl (lv_at hl 0 rfl) ?_
    refine zr_obV ⟨hx, hb, hml, hown, hts⟩ (mt_xf_at l G xA xa_trays xa_tape x_taped x_faultKind x_faultAt xa_bad xa_refused x_status x_above x_under nA xa_marks x_markMany xa_pictures x_lead x_round xa_ways x_bestSet x_bestMany x_left xa_aside xa_last x_hasLived uA n_year tA uA_bo uA_st uA_se ulit umayor unight uoil uborn ustays useen tA_be tA_le tA_mo tA_rn tA_cn tA_bo tA_st Wd R thouses talways tnever nr nc tring tbeside tleast tmost trnames hT) (cwV 0 hts (lw_V q891 q893 qs28 q135 q894) rfl rfl rfl hd_X0_at ⟨(Nat.le_of_ble_eq_true rfl), (Nat.le_of_ble_eq_true rfl)⟩) hP hK hE 0 0 rfl rfl rfl hl.1 rfl (Nat.le_of_ble_eq_true rfl) dX0_whyNoHouse_18 ⟨Nat.le_refl _, Nat.le_refl _⟩ ?_
    refine lv_iload_n hx hb dX0_whyNoHouse_21 rfl (lv_at hl 1 rfl) ?_
    refine lv_iload_n hx hb dX0_whyNoHouse_22 rfl (lv_at hl 2 rfl) ?_
    refine zr_obV ⟨hx, hb, hml, hown, hts⟩ (mt_tf_cell l G tA tA_be tA_le tA_mo tA_rn tA_cn tA_bo tA_st Wd R thouses talways tnever (nI nr) (nI nc) tring tbeside tleast tmost trnames x y) (cwV 2 hts (lw_V q998 q764 q765 q143 q766) rfl rfl rfl hd_X6_cell ⟨(Nat.le_of_ble_eq_true rfl), (Nat.le_of_ble_eq_true rfl)⟩) (zP_sub hP (ws' := (tW G tA tA_be tA_le tA_mo tA_rn tA_cn tA_bo tA_st (nI Wd) (nI R) thouses talways tnever (nI nr) (nI nc) tring tbeside tleast tmost trnames)) [6, 7, 8, 9, 10] rfl) hK hE 0 6 rfl rfl rfl hl.1 rfl (Nat.le_of_ble_eq_true rfl) dX0_whyNoHouse_23 ⟨Nat.le_refl _, Nat.le_refl _⟩ ?_
    refine zr_obV ⟨hx, hb, hml, hown, hts⟩ (mt_tf_isHouse l G tA tA_be tA_le tA_mo tA_rn tA_cn tA_bo tA_st Wd R thouses talways tnever (nI nr) (nI nc) tring tbeside tleast tmost trnames (nI Wd * y + x)) (cwV 1 hts (lw_V q999 q1000 q1001 q143 q1002) rfl rfl rfl hd_X6_isHouse ⟨(Nat.le_of_ble_eq_true rfl), (Nat.le_of_ble_eq_true rfl)⟩) (zP_sub hP (ws' := (tW G tA tA_be tA_le tA_mo tA_rn tA_cn tA_bo tA_st (nI Wd) (nI R) thouses talways tnever (nI nr) (nI nc) tring tbeside tleast tmost trnames)) [6, 7, 8, 9, 10] rfl) hK hE 0 6 rfl rfl rfl hl.1 rfl (Nat.le_of_ble_eq_true rfl) dX0_whyNoHouse_26 ⟨Nat.le_refl _, Nat.le_refl _⟩ ?_
    refine zr_eqB (tf_isHouse thouses (nI Wd * y + x)) (tgt := 36) hx hb dX0_whyNoHouse_29 (by decide) (fun c_2 => ?_) (fun c_2 => ?_)
    · refine lv_bipush (v := 7) hx hb dX0_whyNoHouse_36 (by decide) ?_
      have e_ : xf_whyNoHouse Wd R thouses x y = 7 := by rw [xf_whyNoHouse, if_pos c_1, if_neg c_2]
      exact zr_oi hx hb hr hlocks dX0_whyNoHouse_38 (congrArg Value.int e_)
    · refine lv_iconst (v := 0) hx hb dX0_whyNoHouse_32 (by decide) ?_
      refine lv_goto (tgt := 38) hx hb dX0_whyNoHouse_33 (by decide) ?_
      have e_ : xf_whyNoHouse Wd R thouses x y = 0 := by rw [xf_whyNoHouse, if_pos c_1, if_pos c_2]
      exact zr_oi hx hb hr hlocks dX0_whyNoHouse_38 (congrArg Value.int e_)
  · refine lv_iconst (v := 1) hx hb dX0_whyNoHouse_9 (by decide) ?_
    refine lv_goto (tgt := 38) hx hb dX0_whyNoHouse_10 (by decide) ?_
    have e_ : xf_whyNoHouse Wd R thouses x y = 1 := by rw [xf_whyNoHouse, if_neg c_1]
    exact zr_oi hx hb hr hlocks dX0_whyNoHouse_38 (congrArg Value.int e_)
def xf_whyStuck (Wd : Nat) (R : Nat) (thouses : Int32) (talways : Int32) (tnever : Int32) (x : Int32) (y : Int32) : Int32 :=
  (if (xf_isPlace Wd R x y) = true then
    (if (((thouses &&& ((talways ||| tnever) ^^^ (-1))) >>> ((nI Wd * y + x) &&& 31)) &&& 1) = 1 then
      0
    else
      7)
  else
    1)
theorem hd_X0_whyStuck : yX0_whyStuck.cls = RX0 ∧ yX0_whyStuck.cls ≠ "java/lang/invoke/MethodHandle" ∧ yX0_whyStuck.cls ≠ "java/lang/invoke/VarHandle" ∧ (parseMethodDescriptor yX0_whyStuck.desc).map (fun d => d.parameters.length) = some 2 := by decide +kernel
set_option maxHeartbeats 4000000 in
set_option maxRecDepth 100000 in
theorem mt_xf_whyStuck (l : Launch) (G : zG) (xA : Nat) (xa_trays : Nat) (xa_tape : Nat) (x_taped : Int32) (x_faultKind : Int32) (x_faultAt : Int32) (xa_bad : Nat) (xa_refused : Nat) (x_status : Int32) (x_above : Int64) (x_under : Int64) (nA : Nat) (xa_marks : Nat) (x_markMany : Int32) (xa_pictures : Nat) (x_lead : Int32) (x_round : Int32) (xa_ways : Nat) (x_bestSet : Int32) (x_bestMany : Int32) (x_left : Int32) (xa_aside : Nat) (xa_last : Nat) (x_hasLived : Bool) (uA : Nat) (n_year : Option Nat) (tA : Nat) (uA_bo : Nat) (uA_st : Nat) (uA_se : Nat) (ulit : Int32) (umayor : Int32) (unight : Int32) (uoil : Int32) (uborn : Nat → Int32) (ustays : Nat → Int32) (useen : Nat → Int32) (tA_be : Nat) (tA_le : Nat) (tA_mo : Nat) (tA_rn : Nat) (tA_cn : Nat) (tA_bo : Nat) (tA_st : Nat) (Wd : Nat) (R : Nat) (thouses : Int32) (talways : Int32) (tnever : Int32) (nr : Nat) (nc : Nat) (tring : Bool) (tbeside : Nat → Int32) (tleast : Nat → Int32) (tmost : Nat → Int32) (trnames : Nat → Int64) (x : Int32) (y : Int32) (hT : tOK Wd R nr nc) : Met l yX0_whyStuck (ws_ yX0_whyStuck cX0_whyStuck 3 (some .int)) (zR 3 0 0) (zPo G [.ref xA, .int x, .int y] ((xA_ G xA xa_trays xa_tape x_taped x_faultKind x_faultAt xa_bad xa_refused x_status x_above x_under nA xa_marks x_markMany xa_pictures x_lead x_round xa_ways x_bestSet x_bestMany x_left xa_aside xa_last x_hasLived uA n_year) ++ (hW G uA tA uA_bo uA_st uA_se ulit umayor unight uoil uborn ustays useen) ++ (tW G tA tA_be tA_le tA_mo tA_rn tA_cn tA_bo tA_st (nI Wd) (nI R) thouses talways tnever (nI nr) (nI nc) tring tbeside tleast tmost trnames))) (k2_QcV (.int (xf_whyStuck Wd R thouses talways tnever x y))) 0 0 (fun _ => False) := by
  refine zr_entO (by decide) (Nat.le_of_ble_eq_true rfl) ?_
  intro p e s m below meth c ⟨hx, hb, hr, hml, hown, hts, hlocks, hnm⟩ ls hl hP hK hE
  have hown : s.vm.findClass RX0 = some m.cls := hown
  have hl : lv_has ls 3 [(0, .ref xA), (1, .int x), (2, .int y)] := hl
  have hTT := hT
  obtain ⟨hW0, hW5, hR0, hR6, hn4, hc6, hWR⟩ := hTT
  refine lv_aload_n hx hb dX0_whyStuck_0 rfl (lv_at hl 0 rfl) ?_
  refine lv_iload_n hx hb dX0_whyStuck_1 rfl (lv_at hl 1 rfl) ?_
  refine lv_iload_n hx hb dX0_whyStuck_2 rfl (lv_at hl 2 rfl) ?_
  refine zr_obV ⟨hx, hb, hml, hown, hts⟩ (mt_xf_isPlace l G xA xa_trays xa_tape x_taped x_faultKind x_faultAt xa_bad xa_refused x_status x_above x_under nA xa_marks x_markMany xa_pictures x_lead x_round xa_ways x_bestSet x_bestMany x_left xa_aside xa_last x_hasLived uA n_year tA uA_bo uA_st uA_se ulit umayor unight uoil uborn ustays useen tA_be tA_le tA_mo tA_rn tA_cn tA_bo tA_st Wd R thouses talways tnever nr nc tring tbeside tleast tmost trnames x y hT) (cwV 2 hts (lw_V q994 q996 qs36 q135 q997) rfl rfl rfl hd_X0_isPlace ⟨(Nat.le_of_ble_eq_true rfl), (Nat.le_of_ble_eq_true rfl)⟩) hP hK hE 0 0 rfl rfl rfl hl.1 rfl (Nat.le_of_ble_eq_true rfl) dX0_whyStuck_3 ⟨Nat.le_refl _, Nat.le_refl _⟩ ?_
  refine zr_neB (xf_isPlace Wd R x y) (tgt := 13) hx hb dX0_whyStuck_6 (by decide) (fun c_1 => ?_) (fun c_1 => ?_)
  · refine lv_aload_n hx hb dX0_whyStuck_13 rfl (lv_at hl 0 rfl) ?_
    refine zr_obV ⟨hx, hb, hml, hown, hts⟩ (mt_xf_at l G xA xa_trays xa_tape x_taped x_faultKind x_faultAt xa_bad xa_refused x_status x_above x_under nA xa_marks x_markMany xa_pictures x_lead x_round xa_ways x_bestSet x_bestMany x_left xa_aside xa_last x_hasLived uA n_year tA uA_bo uA_st uA_se ulit umayor unight uoil uborn ustays useen tA_be tA_le tA_mo tA_rn tA_cn tA_bo tA_st Wd R thouses talways tnever nr nc tring tbeside tleast tmost trnames hT) (cwV 0 hts (lw_V q891 q893 qs28 q135 q894) rfl rfl rfl hd_X0_at ⟨(Nat.le_of_ble_eq_true rfl), (Nat.le_of_ble_eq_true rfl)⟩) hP hK hE 0 0 rfl rfl rfl hl.1 rfl (Nat.le_of_ble_eq_true rfl) dX0_whyStuck_14 ⟨Nat.le_refl _, Nat.le_refl _⟩ ?_
    refine zr_obV ⟨hx, hb, hml, hown, hts⟩ (mt_tf_free l G tA tA_be tA_le tA_mo tA_rn tA_cn tA_bo tA_st Wd R thouses talways tnever (nI nr) (nI nc) tring tbeside tleast tmost trnames) (cwV 0 hts (lw_V q1027 q1028 q1029 q143 q1030) rfl rfl rfl hd_X6_free ⟨(Nat.le_of_ble_eq_true rfl), (Nat.le_of_ble_eq_true rfl)⟩) (zP_sub hP (ws' := (tW G tA tA_be tA_le tA_mo tA_rn tA_cn tA_bo tA_st (nI Wd) (nI R) thouses talways tnever (nI nr) (nI nc) tring tbeside tleast tmost trnames)) [6, 7, 8, 9, 10] rfl) hK hE 0 6 rfl rfl rfl hl.1 rfl (Nat.le_of_ble_eq_true rfl) dX0_whyStuck_17 ⟨Nat.le_refl _, Nat.le_refl _⟩ ?_
    refine lv_aload_n hx hb dX0_whyStuck_20 rfl (lv_at hl 0 rfl) ?_
    refine zr_obV ⟨hx, hb, hml, hown, hts⟩ (mt_xf_at l G xA xa_trays xa_tape x_taped x_faultKind x_faultAt xa_bad xa_refused x_status x_above x_under nA xa_marks x_markMany xa_pictures x_lead x_round xa_ways x_bestSet x_bestMany x_left xa_aside xa_last x_hasLived uA n_year tA uA_bo uA_st uA_se ulit umayor unight uoil uborn ustays useen tA_be tA_le tA_mo tA_rn tA_cn tA_bo tA_st Wd R thouses talways tnever nr nc tring tbeside tleast tmost trnames hT) (cwV 0 hts (lw_V q891 q893 qs28 q135 q894) rfl rfl rfl hd_X0_at ⟨(Nat.le_of_ble_eq_true rfl), (Nat.le_of_ble_eq_true rfl)⟩) hP hK hE 0 0 rfl rfl rfl hl.1 rfl (Nat.le_of_ble_eq_true rfl) dX0_whyStuck_21 ⟨Nat.le_refl _, Nat.le_refl _⟩ ?_
    refine lv_iload_n hx hb dX0_whyStuck_24 rfl (lv_at hl 1 rfl) ?_
    refine lv_iload_n hx hb dX0_whyStuck_25 rfl (lv_at hl 2 rfl) ?_
    refine zr_obV ⟨hx, hb, hml, hown, hts⟩ (mt_tf_cell l G tA tA_be tA_le tA_mo tA_rn tA_cn tA_bo tA_st Wd R thouses talways tnever (nI nr) (nI nc) tring tbeside tleast tmost trnames x y) (cwV 2 hts (lw_V q998 q764 q765 q143 q766) rfl rfl rfl hd_X6_cell ⟨(Nat.le_of_ble_eq_true rfl), (Nat.le_of_ble_eq_true rfl)⟩) (zP_sub hP (ws' := (tW G tA tA_be tA_le tA_mo tA_rn tA_cn tA_bo tA_st (nI Wd) (nI R) thouses talways tnever (nI nr) (nI nc) tring tbeside tleast tmost trnames)) [6, 7, 8, 9, 10] rfl) hK hE 0 6 rfl rfl rfl hl.1 rfl (Nat.le_of_ble_eq_true rfl) dX0_whyStuck_26 ⟨Nat.le_refl _, Nat.le_refl _⟩ ?_
    refine lv_ishr hx hb dX0_whyStuck_29 ?_
    refine lv_iconst (v := 1) hx hb dX0_whyStuck_30 (by decide) ?_
    refine lv_iand hx hb dX0_whyStuck_31 ?_
    refine lv_iconst (v := 1) hx hb dX0_whyStuck_32 (by decide) ?_
    refine lv_icmp_ne (tgt := 40) hx hb dX0_whyStuck_33 (by decide) (fun c_2 => ?_) (fun c_2 => ?_)
    · refine lv_bipush (v := 7) hx hb dX0_whyStuck_40 (by decide) ?_
      have e_ : xf_whyStuck Wd R thouses talways tnever x y = 7 := by rw [xf_whyStuck, if_pos c_1, if_neg c_2]
      exact zr_oi hx hb hr hlocks dX0_whyStuck_42 (congrArg Value.int e_)
    · refine lv_iconst (v := 0) hx hb dX0_whyStuck_36 (by decide) ?_
      refine lv_goto (tgt := 42) hx hb dX0_whyStuck_37 (by decide) ?_
      have e_ : xf_whyStuck Wd R thouses talways tnever x y = 0 := by rw [xf_whyStuck, if_pos c_1, if_pos c_2]
      exact zr_oi hx hb hr hlocks dX0_whyStuck_42 (congrArg Value.int e_)
  · refine lv_iconst (v := 1) hx hb dX0_whyStuck_9 (by decide) ?_
    refine lv_goto (tgt := 42) hx hb dX0_whyStuck_10 (by decide) ?_
    have e_ : xf_whyStuck Wd R thouses talways tnever x y = 1 := by rw [xf_whyStuck, if_neg c_1]
    exact zr_oi hx hb hr hlocks dX0_whyStuck_42 (congrArg Value.int e_)
def xf_answer (v : Int32) : Int32 × Int32 :=
  (if 0 ≤ v then
    (v, 0)
  else
    (v, 6))
theorem hd_X0_answer : yX0_answer.cls = RX0 ∧ yX0_answer.cls ≠ "java/lang/invoke/MethodHandle" ∧ yX0_answer.cls ≠ "java/lang/invoke/VarHandle" ∧ (parseMethodDescriptor yX0_answer.desc).map (fun d => d.parameters.length) = some 1 := by decide +kernel
set_option maxHeartbeats 4000000 in
set_option maxRecDepth 100000 in
theorem mt_xf_answer (l : Launch) (G : zG) (xA : Nat) (xa_trays : Nat) (xa_tape : Nat) (x_taped : Int32) (x_faultKind : Int32) (x_faultAt : Int32) (xa_bad : Nat) (xa_refused : Nat) (x_status : Int32) (x_above : Int64) (x_under : Int64) (nA : Nat) (xa_marks : Nat) (x_markMany : Int32) (xa_pictures : Nat) (x_lead : Int32) (x_round : Int32) (xa_ways : Nat) (x_bestSet : Int32) (x_bestMany : Int32) (x_left : Int32) (xa_aside : Nat) (xa_last : Nat) (x_hasLived : Bool) (uA : Nat) (n_year : Option Nat) (tA : Nat) (uA_bo : Nat) (uA_st : Nat) (uA_se : Nat) (ulit : Int32) (umayor : Int32) (unight : Int32) (uoil : Int32) (uborn : Nat → Int32) (ustays : Nat → Int32) (useen : Nat → Int32) (tA_be : Nat) (tA_le : Nat) (tA_mo : Nat) (tA_rn : Nat) (tA_cn : Nat) (tA_bo : Nat) (tA_st : Nat) (Wd : Nat) (R : Nat) (thouses : Int32) (talways : Int32) (tnever : Int32) (nr : Nat) (nc : Nat) (tring : Bool) (tbeside : Nat → Int32) (tleast : Nat → Int32) (tmost : Nat → Int32) (trnames : Nat → Int64) (v : Int32) (hT : tOK Wd R nr nc) (sz : Nat) : Met l yX0_answer (ws_ yX0_answer cX0_answer 2 (some .int)) (zR 1 0 0) (zPm G sz [.ref xA, .int v] ((xA_ G xA xa_trays xa_tape x_taped x_faultKind x_faultAt xa_bad xa_refused x_status x_above x_under nA xa_marks x_markMany xa_pictures x_lead x_round xa_ways x_bestSet x_bestMany x_left xa_aside xa_last x_hasLived uA n_year) ++ (hW G uA tA uA_bo uA_st uA_se ulit umayor unight uoil uborn ustays useen) ++ (tW G tA tA_be tA_le tA_mo tA_rn tA_cn tA_bo tA_st (nI Wd) (nI R) thouses talways tnever (nI nr) (nI nc) tring tbeside tleast tmost trnames))) (zQm G (True) (some (.int ((xf_answer v).1))) ((xA_ G xA xa_trays xa_tape x_taped x_faultKind x_faultAt xa_bad xa_refused ((xf_answer v).2) x_above x_under nA xa_marks x_markMany xa_pictures x_lead x_round xa_ways x_bestSet x_bestMany x_left xa_aside xa_last x_hasLived uA n_year) ++ (hW G uA tA uA_bo uA_st uA_se ulit umayor unight uoil uborn ustays useen) ++ (tW G tA tA_be tA_le tA_mo tA_rn tA_cn tA_bo tA_st (nI Wd) (nI R) thouses talways tnever (nI nr) (nI nc) tring tbeside tleast tmost trnames)) (va_A ((xA_ G xA xa_trays xa_tape x_taped x_faultKind x_faultAt xa_bad xa_refused x_status x_above x_under nA xa_marks x_markMany xa_pictures x_lead x_round xa_ways x_bestSet x_bestMany x_left xa_aside xa_last x_hasLived uA n_year) ++ (hW G uA tA uA_bo uA_st uA_se ulit umayor unight uoil uborn ustays useen) ++ (tW G tA tA_be tA_le tA_mo tA_rn tA_cn tA_bo tA_st (nI Wd) (nI R) thouses talways tnever (nI nr) (nI nc) tring tbeside tleast tmost trnames)) sz)) 0 0 (va_A ((xA_ G xA xa_trays xa_tape x_taped x_faultKind x_faultAt xa_bad xa_refused x_status x_above x_under nA xa_marks x_markMany xa_pictures x_lead x_round xa_ways x_bestSet x_bestMany x_left xa_aside xa_last x_hasLived uA n_year) ++ (hW G uA tA uA_bo uA_st uA_se ulit umayor unight uoil uborn ustays useen) ++ (tW G tA tA_be tA_le tA_mo tA_rn tA_cn tA_bo tA_st (nI Wd) (nI R) thouses talways tnever (nI nr) (nI nc) tring tbeside tleast tmost trnames)) sz) := by
  refine zr_entM (by decide) (Nat.le_of_ble_eq_true rfl) ?_
  intro p e s m below meth c ⟨hx, hb, hr, hml, hown, hts, hlocks, hnm⟩ ls hl hP hK A hE hA hD hS
  have hown : s.vm.findClass RX0 = some m.cls := hown
  have hl : lv_has ls 2 [(0, .ref xA), (1, .int v)] := hl
  obtain ⟨H, hH⟩ : ∃ H, H = s.heap := ⟨_, rfl⟩
  obtain ⟨locs, hlo⟩ : ∃ L : List Loc, L = [] := ⟨_, rfl⟩
  rw [← hH] at hP
  have hS : va_S A s.heap H locs := by rw [hH, hlo]; exact va_S.rf
  have hgo : W p l e (zR 1 0 0) s m ([.ref xA, .int v] : List Value).toArray below meth c H locs 0 0 (MQ below (zQm G (True) (some (.int ((xf_answer v).1))) ((xA_ G xA xa_trays xa_tape x_taped x_faultKind x_faultAt xa_bad xa_refused ((xf_answer v).2) x_above x_under nA xa_marks x_markMany xa_pictures x_lead x_round xa_ways x_bestSet x_bestMany x_left xa_aside xa_last x_hasLived uA n_year) ++ (hW G uA tA uA_bo uA_st uA_se ulit umayor unight uoil uborn ustays useen) ++ (tW G tA tA_be tA_le tA_mo tA_rn tA_cn tA_bo tA_st (nI Wd) (nI R) thouses talways tnever (nI nr) (nI nc) tring tbeside tleast tmost trnames)) A) ([.ref xA, .int v] : List Value).toArray s 0 0 A) (F0 m 0 ls []) := ?_
  · rw [hH, hlo] at hgo; exact hgo
  clear hH hlo
  have hTT := hT
  obtain ⟨hW0, hW5, hR0, hR6, hn4, hc6, hWR⟩ := hTT
  refine lv_aload_n hx hb dX0_answer_0 rfl (lv_at hl 0 rfl) ?_
  refine lv_iload_n hx hb dX0_answer_1 rfl (lv_at hl 1 rfl) ?_
  refine lv_if_ge (tgt := 10) hx hb dX0_answer_2 (by decide) (fun c_1 => ?_) (fun c_1 => ?_)
  · refine lv_iconst (v := 0) hx hb dX0_answer_10 (by decide) ?_
    refine va_put (D := G.1) (ci := 0) (v := .int 0) (ty := .int) (C := RX0) (T := TX0) (N := 23) hx hb hts in_X0 tyX0 tyX0_ok nmX0 hown hK.1 hP hD hS 0 rfl rfl 7 (Nat.le_of_ble_eq_true rfl) (hts _ q432) (fun _ h => h) rfl (tyX0_ok 7 (Nat.le_of_ble_eq_true rfl)) rfl rfl (Nat.le_of_ble_eq_true rfl) dX0_answer_11 (fun H locs hP hD hS => ?_)
    have hP : va_P G.1 zcl ((xA_ G xA xa_trays xa_tape x_taped x_faultKind x_faultAt xa_bad xa_refused 0 x_above x_under nA xa_marks x_markMany xa_pictures x_lead x_round xa_ways x_bestSet x_bestMany x_left xa_aside xa_last x_hasLived uA n_year) ++ (hW G uA tA uA_bo uA_st uA_se ulit umayor unight uoil uborn ustays useen) ++ (tW G tA tA_be tA_le tA_mo tA_rn tA_cn tA_bo tA_st (nI Wd) (nI R) thouses talways tnever (nI nr) (nI nc) tring tbeside tleast tmost trnames)) H := hP
    have hD : va_D A ((xA_ G xA xa_trays xa_tape x_taped x_faultKind x_faultAt xa_bad xa_refused 0 x_above x_under nA xa_marks x_markMany xa_pictures x_lead x_round xa_ways x_bestSet x_bestMany x_left xa_aside xa_last x_hasLived uA n_year) ++ (hW G uA tA uA_bo uA_st uA_se ulit umayor unight uoil uborn ustays useen) ++ (tW G tA tA_be tA_le tA_mo tA_rn tA_cn tA_bo tA_st (nI Wd) (nI R) thouses talways tnever (nI nr) (nI nc) tring tbeside tleast tmost trnames)) := hD
    refine lv_iload_n hx hb dX0_answer_14 rfl (lv_at hl 1 rfl) ?_
    have e_ : xf_answer v = (v, 0) := by rw [xf_answer, if_pos c_1]
    exact zr_mi hx hb hr hlocks hP hD hS dX0_answer_15 (by rw [e_])  (by rw [e_]) trivial
  · refine lv_bipush (v := 6) hx hb dX0_answer_5 (by decide) ?_
    refine lv_goto (tgt := 11) hx hb dX0_answer_7 (by decide) ?_
    refine va_put (D := G.1) (ci := 0) (v := .int 6) (ty := .int) (C := RX0) (T := TX0) (N := 23) hx hb hts in_X0 tyX0 tyX0_ok nmX0 hown hK.1 hP hD hS 0 rfl rfl 7 (Nat.le_of_ble_eq_true rfl) (hts _ q432) (fun _ h => h) rfl (tyX0_ok 7 (Nat.le_of_ble_eq_true rfl)) rfl rfl (Nat.le_of_ble_eq_true rfl) dX0_answer_11 (fun H locs hP hD hS => ?_)
    have hP : va_P G.1 zcl ((xA_ G xA xa_trays xa_tape x_taped x_faultKind x_faultAt xa_bad xa_refused 6 x_above x_under nA xa_marks x_markMany xa_pictures x_lead x_round xa_ways x_bestSet x_bestMany x_left xa_aside xa_last x_hasLived uA n_year) ++ (hW G uA tA uA_bo uA_st uA_se ulit umayor unight uoil uborn ustays useen) ++ (tW G tA tA_be tA_le tA_mo tA_rn tA_cn tA_bo tA_st (nI Wd) (nI R) thouses talways tnever (nI nr) (nI nc) tring tbeside tleast tmost trnames)) H := hP
    have hD : va_D A ((xA_ G xA xa_trays xa_tape x_taped x_faultKind x_faultAt xa_bad xa_refused 6 x_above x_under nA xa_marks x_markMany xa_pictures x_lead x_round xa_ways x_bestSet x_bestMany x_left xa_aside xa_last x_hasLived uA n_year) ++ (hW G uA tA uA_bo uA_st uA_se ulit umayor unight uoil uborn ustays useen) ++ (tW G tA tA_be tA_le tA_mo tA_rn tA_cn tA_bo tA_st (nI Wd) (nI R) thouses talways tnever (nI nr) (nI nc) tring tbeside tleast tmost trnames)) := hD
    refine lv_iload_n hx hb dX0_answer_14 rfl (lv_at hl 1 rfl) ?_
    have e_ : xf_answer v = (v, 6) := by rw [xf_answer, if_neg c_1]
    exact zr_mi hx hb hr hlocks hP hD hS dX0_answer_15 (by rw [e_])  (by rw [e_]) trivial
def xf_status (x_status : Int32) : Int32 :=
  x_status
theorem hd_X0_status : yX0_status.cls = RX0 ∧ yX0_status.cls ≠ "java/lang/invoke/MethodHandle" ∧ yX0_status.cls ≠ "java/lang/invoke/VarHandle" ∧ (parseMethodDescriptor yX0_status.desc).map (fun d => d.parameters.length) = some 0 := by decide +kernel
set_option maxHeartbeats 4000000 in
set_option maxRecDepth 100000 in
theorem mt_xf_status (l : Launch) (G : zG) (xA : Nat) (xa_trays : Nat) (xa_tape : Nat) (x_taped : Int32) (x_faultKind : Int32) (x_faultAt : Int32) (xa_bad : Nat) (xa_refused : Nat) (x_status : Int32) (x_above : Int64) (x_under : Int64) (nA : Nat) (xa_marks : Nat) (x_markMany : Int32) (xa_pictures : Nat) (x_lead : Int32) (x_round : Int32) (xa_ways : Nat) (x_bestSet : Int32) (x_bestMany : Int32) (x_left : Int32) (xa_aside : Nat) (xa_last : Nat) (x_hasLived : Bool) (uA : Nat) (n_year : Option Nat) (tA : Nat) (uA_bo : Nat) (uA_st : Nat) (uA_se : Nat) (ulit : Int32) (umayor : Int32) (unight : Int32) (uoil : Int32) (uborn : Nat → Int32) (ustays : Nat → Int32) (useen : Nat → Int32) (tA_be : Nat) (tA_le : Nat) (tA_mo : Nat) (tA_rn : Nat) (tA_cn : Nat) (tA_bo : Nat) (tA_st : Nat) (Wd : Nat) (R : Nat) (thouses : Int32) (talways : Int32) (tnever : Int32) (nr : Nat) (nc : Nat) (tring : Bool) (tbeside : Nat → Int32) (tleast : Nat → Int32) (tmost : Nat → Int32) (trnames : Nat → Int64) (hT : tOK Wd R nr nc) : Met l yX0_status (ws_ yX0_status cX0_status 1 (some .int)) (zR 1 0 0) (zPo G [.ref xA] ((xA_ G xA xa_trays xa_tape x_taped x_faultKind x_faultAt xa_bad xa_refused x_status x_above x_under nA xa_marks x_markMany xa_pictures x_lead x_round xa_ways x_bestSet x_bestMany x_left xa_aside xa_last x_hasLived uA n_year) ++ (hW G uA tA uA_bo uA_st uA_se ulit umayor unight uoil uborn ustays useen) ++ (tW G tA tA_be tA_le tA_mo tA_rn tA_cn tA_bo tA_st (nI Wd) (nI R) thouses talways tnever (nI nr) (nI nc) tring tbeside tleast tmost trnames))) (k2_QcV (.int (xf_status x_status))) 0 0 (fun _ => False) := by
  refine zr_entO (by decide) (Nat.le_of_ble_eq_true rfl) ?_
  intro p e s m below meth c ⟨hx, hb, hr, hml, hown, hts, hlocks, hnm⟩ ls hl hP hK hE
  have hown : s.vm.findClass RX0 = some m.cls := hown
  have hl : lv_has ls 1 [(0, .ref xA)] := hl
  have hTT := hT
  obtain ⟨hW0, hW5, hR0, hR6, hn4, hc6, hWR⟩ := hTT
  refine lv_aload_n hx hb dX0_status_0 rfl (lv_at hl 0 rfl) ?_
  refine va_get (D := G.1) (ci := 0) (v := .int x_status) (C := RX0) (T := TX0) (N := 23) hx hb hts in_X0 hown hK.1 hP 0 rfl rfl 7 (Nat.le_of_ble_eq_true rfl) (hts _ q432) (fun _ h => h) rfl dX0_status_1 ?_
  have e_ : xf_status x_status = x_status := by rw [xf_status]
  exact zr_oi hx hb hr hlocks dX0_status_4 (congrArg Value.int e_)
def xf_top (x_above : Int64) : Int64 :=
  x_above
theorem hd_X0_top : yX0_top.cls = RX0 ∧ yX0_top.cls ≠ "java/lang/invoke/MethodHandle" ∧ yX0_top.cls ≠ "java/lang/invoke/VarHandle" ∧ (parseMethodDescriptor yX0_top.desc).map (fun d => d.parameters.length) = some 0 := by decide +kernel
set_option maxHeartbeats 4000000 in
set_option maxRecDepth 100000 in
theorem mt_xf_top (l : Launch) (G : zG) (xA : Nat) (xa_trays : Nat) (xa_tape : Nat) (x_taped : Int32) (x_faultKind : Int32) (x_faultAt : Int32) (xa_bad : Nat) (xa_refused : Nat) (x_status : Int32) (x_above : Int64) (x_under : Int64) (nA : Nat) (xa_marks : Nat) (x_markMany : Int32) (xa_pictures : Nat) (x_lead : Int32) (x_round : Int32) (xa_ways : Nat) (x_bestSet : Int32) (x_bestMany : Int32) (x_left : Int32) (xa_aside : Nat) (xa_last : Nat) (x_hasLived : Bool) (uA : Nat) (n_year : Option Nat) (tA : Nat) (uA_bo : Nat) (uA_st : Nat) (uA_se : Nat) (ulit : Int32) (umayor : Int32) (unight : Int32) (uoil : Int32) (uborn : Nat → Int32) (ustays : Nat → Int32) (useen : Nat → Int32) (tA_be : Nat) (tA_le : Nat) (tA_mo : Nat) (tA_rn : Nat) (tA_cn : Nat) (tA_bo : Nat) (tA_st : Nat) (Wd : Nat) (R : Nat) (thouses : Int32) (talways : Int32) (tnever : Int32) (nr : Nat) (nc : Nat) (tring : Bool) (tbeside : Nat → Int32) (tleast : Nat → Int32) (tmost : Nat → Int32) (trnames : Nat → Int64) (hT : tOK Wd R nr nc) : Met l yX0_top (ws_ yX0_top cX0_top 1 (some .long)) (zR 1 0 0) (zPo G [.ref xA] ((xA_ G xA xa_trays xa_tape x_taped x_faultKind x_faultAt xa_bad xa_refused x_status x_above x_under nA xa_marks x_markMany xa_pictures x_lead x_round xa_ways x_bestSet x_bestMany x_left xa_aside xa_last x_hasLived uA n_year) ++ (hW G uA tA uA_bo uA_st uA_se ulit umayor unight uoil uborn ustays useen) ++ (tW G tA tA_be tA_le tA_mo tA_rn tA_cn tA_bo tA_st (nI Wd) (nI R) thouses talways tnever (nI nr) (nI nc) tring tbeside tleast tmost trnames))) (k2_QcV (.long (xf_top x_above))) 0 0 (fun _ => False) := by
  refine zr_entO (by decide) (Nat.le_of_ble_eq_true rfl) ?_
  intro p e s m below meth c ⟨hx, hb, hr, hml, hown, hts, hlocks, hnm⟩ ls hl hP hK hE
  have hown : s.vm.findClass RX0 = some m.cls := hown
  have hl : lv_has ls 1 [(0, .ref xA)] := hl
  have hTT := hT
  obtain ⟨hW0, hW5, hR0, hR6, hn4, hc6, hWR⟩ := hTT
  refine lv_aload_n hx hb dX0_top_0 rfl (lv_at hl 0 rfl) ?_
  refine va_get (D := G.1) (ci := 0) (v := .long x_above) (C := RX0) (T := TX0) (N := 23) hx hb hts in_X0 hown hK.1 hP 0 rfl rfl 8 (Nat.le_of_ble_eq_true rfl) (hts _ q433) (fun _ h => h) rfl dX0_top_1 ?_
  have e_ : xf_top x_above = x_above := by rw [xf_top]
  exact zr_ol hx hb hr hlocks dX0_top_4 (congrArg Value.long e_)
def xf_bottom (x_under : Int64) : Int64 :=
  x_under
theorem hd_X0_bottom : yX0_bottom.cls = RX0 ∧ yX0_bottom.cls ≠ "java/lang/invoke/MethodHandle" ∧ yX0_bottom.cls ≠ "java/lang/invoke/VarHandle" ∧ (parseMethodDescriptor yX0_bottom.desc).map (fun d => d.parameters.length) = some 0 := by decide +kernel
set_option maxHeartbeats 4000000 in
set_option maxRecDepth 100000 in
theorem mt_xf_bottom (l : Launch) (G : zG) (xA : Nat) (xa_trays : Nat) (xa_tape : Nat) (x_taped : Int32) (x_faultKind : Int32) (x_faultAt : Int32) (xa_bad : Nat) (xa_refused : Nat) (x_status : Int32) (x_above : Int64) (x_under : Int64) (nA : Nat) (xa_marks : Nat) (x_markMany : Int32) (xa_pictures : Nat) (x_lead : Int32) (x_round : Int32) (xa_ways : Nat) (x_bestSet : Int32) (x_bestMany : Int32) (x_left : Int32) (xa_aside : Nat) (xa_last : Nat) (x_hasLived : Bool) (uA : Nat) (n_year : Option Nat) (tA : Nat) (uA_bo : Nat) (uA_st : Nat) (uA_se : Nat) (ulit : Int32) (umayor : Int32) (unight : Int32) (uoil : Int32) (uborn : Nat → Int32) (ustays : Nat → Int32) (useen : Nat → Int32) (tA_be : Nat) (tA_le : Nat) (tA_mo : Nat) (tA_rn : Nat) (tA_cn : Nat) (tA_bo : Nat) (tA_st : Nat) (Wd : Nat) (R : Nat) (thouses : Int32) (talways : Int32) (tnever : Int32) (nr : Nat) (nc : Nat) (tring : Bool) (tbeside : Nat → Int32) (tleast : Nat → Int32) (tmost : Nat → Int32) (trnames : Nat → Int64) (hT : tOK Wd R nr nc) : Met l yX0_bottom (ws_ yX0_bottom cX0_bottom 1 (some .long)) (zR 1 0 0) (zPo G [.ref xA] ((xA_ G xA xa_trays xa_tape x_taped x_faultKind x_faultAt xa_bad xa_refused x_status x_above x_under nA xa_marks x_markMany xa_pictures x_lead x_round xa_ways x_bestSet x_bestMany x_left xa_aside xa_last x_hasLived uA n_year) ++ (hW G uA tA uA_bo uA_st uA_se ulit umayor unight uoil uborn ustays useen) ++ (tW G tA tA_be tA_le tA_mo tA_rn tA_cn tA_bo tA_st (nI Wd) (nI R) thouses talways tnever (nI nr) (nI nc) tring tbeside tleast tmost trnames))) (k2_QcV (.long (xf_bottom x_under))) 0 0 (fun _ => False) := by
  refine zr_entO (by decide) (Nat.le_of_ble_eq_true rfl) ?_
  intro p e s m below meth c ⟨hx, hb, hr, hml, hown, hts, hlocks, hnm⟩ ls hl hP hK hE
  have hown : s.vm.findClass RX0 = some m.cls := hown
  have hl : lv_has ls 1 [(0, .ref xA)] := hl
  have hTT := hT
  obtain ⟨hW0, hW5, hR0, hR6, hn4, hc6, hWR⟩ := hTT
  refine lv_aload_n hx hb dX0_bottom_0 rfl (lv_at hl 0 rfl) ?_
  refine va_get (D := G.1) (ci := 0) (v := .long x_under) (C := RX0) (T := TX0) (N := 23) hx hb hts in_X0 hown hK.1 hP 0 rfl rfl 9 (Nat.le_of_ble_eq_true rfl) (hts _ q434) (fun _ h => h) rfl dX0_bottom_1 ?_
  have e_ : xf_bottom x_under = x_under := by rw [xf_bottom]
  exact zr_ol hx hb hr hlocks dX0_bottom_4 (congrArg Value.long e_)
def xf_fault (x_faultKind : Int32) (x_faultAt : Int32) (what : Int32) : Int32 :=
  (if what = 0 then
    x_faultKind
  else
    (if what = 1 then
      x_faultAt
    else
      (-1)))
theorem hd_X0_fault : yX0_fault.cls = RX0 ∧ yX0_fault.cls ≠ "java/lang/invoke/MethodHandle" ∧ yX0_fault.cls ≠ "java/lang/invoke/VarHandle" ∧ (parseMethodDescriptor yX0_fault.desc).map (fun d => d.parameters.length) = some 1 := by decide +kernel
set_option maxHeartbeats 4000000 in
set_option maxRecDepth 100000 in
theorem mt_xf_fault (l : Launch) (G : zG) (xA : Nat) (xa_trays : Nat) (xa_tape : Nat) (x_taped : Int32) (x_faultKind : Int32) (x_faultAt : Int32) (xa_bad : Nat) (xa_refused : Nat) (x_status : Int32) (x_above : Int64) (x_under : Int64) (nA : Nat) (xa_marks : Nat) (x_markMany : Int32) (xa_pictures : Nat) (x_lead : Int32) (x_round : Int32) (xa_ways : Nat) (x_bestSet : Int32) (x_bestMany : Int32) (x_left : Int32) (xa_aside : Nat) (xa_last : Nat) (x_hasLived : Bool) (uA : Nat) (n_year : Option Nat) (tA : Nat) (uA_bo : Nat) (uA_st : Nat) (uA_se : Nat) (ulit : Int32) (umayor : Int32) (unight : Int32) (uoil : Int32) (uborn : Nat → Int32) (ustays : Nat → Int32) (useen : Nat → Int32) (tA_be : Nat) (tA_le : Nat) (tA_mo : Nat) (tA_rn : Nat) (tA_cn : Nat) (tA_bo : Nat) (tA_st : Nat) (Wd : Nat) (R : Nat) (thouses : Int32) (talways : Int32) (tnever : Int32) (nr : Nat) (nc : Nat) (tring : Bool) (tbeside : Nat → Int32) (tleast : Nat → Int32) (tmost : Nat → Int32) (trnames : Nat → Int64) (what : Int32) (hT : tOK Wd R nr nc) : Met l yX0_fault (ws_ yX0_fault cX0_fault 2 (some .int)) (zR 1 0 0) (zPo G [.ref xA, .int what] ((xA_ G xA xa_trays xa_tape x_taped x_faultKind x_faultAt xa_bad xa_refused x_status x_above x_under nA xa_marks x_markMany xa_pictures x_lead x_round xa_ways x_bestSet x_bestMany x_left xa_aside xa_last x_hasLived uA n_year) ++ (hW G uA tA uA_bo uA_st uA_se ulit umayor unight uoil uborn ustays useen) ++ (tW G tA tA_be tA_le tA_mo tA_rn tA_cn tA_bo tA_st (nI Wd) (nI R) thouses talways tnever (nI nr) (nI nc) tring tbeside tleast tmost trnames))) (k2_QcV (.int (xf_fault x_faultKind x_faultAt what))) 0 0 (fun _ => False) := by
  refine zr_entO (by decide) (Nat.le_of_ble_eq_true rfl) ?_
  intro p e s m below meth c ⟨hx, hb, hr, hml, hown, hts, hlocks, hnm⟩ ls hl hP hK hE
  have hown : s.vm.findClass RX0 = some m.cls := hown
  have hl : lv_has ls 2 [(0, .ref xA), (1, .int what)] := hl
  have hTT := hT
  obtain ⟨hW0, hW5, hR0, hR6, hn4, hc6, hWR⟩ := hTT
  refine lv_iload_n hx hb dX0_fault_0 rfl (lv_at hl 1 rfl) ?_
  refine lv_if_ne (tgt := 11) hx hb dX0_fault_1 (by decide) (fun c_1 => ?_) (fun c_1 => ?_)
  · refine lv_iload_n hx hb dX0_fault_11 rfl (lv_at hl 1 rfl) ?_
    refine lv_iconst (v := 1) hx hb dX0_fault_12 (by decide) ?_
    refine lv_icmp_ne (tgt := 23) hx hb dX0_fault_13 (by decide) (fun c_2 => ?_) (fun c_2 => ?_)
    · refine lv_iconst (v := (-1)) hx hb dX0_fault_23 (by decide) ?_
      have e_ : xf_fault x_faultKind x_faultAt what = (-1) := by rw [xf_fault, if_neg c_1, if_neg c_2]
      exact zr_oi hx hb hr hlocks dX0_fault_24 (congrArg Value.int e_)
    · refine lv_aload_n hx hb dX0_fault_16 rfl (lv_at hl 0 rfl) ?_
      refine va_get (D := G.1) (ci := 0) (v := .int x_faultAt) (C := RX0) (T := TX0) (N := 23) hx hb hts in_X0 hown hK.1 hP 0 rfl rfl 4 (Nat.le_of_ble_eq_true rfl) (hts _ q428) (fun _ h => h) rfl dX0_fault_17 ?_
      refine lv_goto (tgt := 24) hx hb dX0_fault_20 (by decide) ?_
      have e_ : xf_fault x_faultKind x_faultAt what = x_faultAt := by rw [xf_fault, if_neg c_1, if_pos c_2]
      exact zr_oi hx hb hr hlocks dX0_fault_24 (congrArg Value.int e_)
  · refine lv_aload_n hx hb dX0_fault_4 rfl (lv_at hl 0 rfl) ?_
    refine va_get (D := G.1) (ci := 0) (v := .int x_faultKind) (C := RX0) (T := TX0) (N := 23) hx hb hts in_X0 hown hK.1 hP 0 rfl rfl 3 (Nat.le_of_ble_eq_true rfl) (hts _ q427) (fun _ h => h) rfl dX0_fault_5 ?_
    refine lv_goto (tgt := 24) hx hb dX0_fault_8 (by decide) ?_
    have e_ : xf_fault x_faultKind x_faultAt what = x_faultKind := by rw [xf_fault, if_pos c_1]
    exact zr_oi hx hb hr hlocks dX0_fault_24 (congrArg Value.int e_)
def xf_told (ulit : Int32) (umayor : Int32) (unight : Int32) (uoil : Int32) (Wd : Nat) (R : Nat) (thouses : Int32) (talways : Int32) (tnever : Int32) (nr : Nat) (nc : Nat) (tring : Bool) (what : Int32) : Int32 × Int32 :=
  (if (xf_isIn what.toInt64 0 10) = true then
    (if what = 0 then
      (nI Wd, 0)
    else
      (if what = 1 then
        (nI R, 0)
      else
        (if what = 2 then
          (nI (zpc thouses), 0)
        else
          (if what = 3 then
            (nI (zpc ulit), 0)
          else
            (if what = 4 then
              (nI (zpc (talways ||| tnever)), 0)
            else
              (if what = 5 then
                (nI nr, 0)
              else
                (if what = 6 then
                  (nI nc, 0)
                else
                  (if what = 7 then
                    (unight, 0)
                  else
                    (if what = 8 then
                      (uoil, 0)
                    else
                      (if what = 9 then
                        (if (tf_joins Wd tring) = true then
                          (1, 0)
                        else
                          (0, 0))
                      else
                        (if what = 10 then
                          zlet (xf_answer umayor) (fun t_27 =>
                          (t_27.1, t_27.2))
                        else
                          ((-1), 0))))))))))))
  else
    (if what = 0 then
      (nI Wd, 1)
    else
      (if what = 1 then
        (nI R, 1)
      else
        (if what = 2 then
          (nI (zpc thouses), 1)
        else
          (if what = 3 then
            (nI (zpc ulit), 1)
          else
            (if what = 4 then
              (nI (zpc (talways ||| tnever)), 1)
            else
              (if what = 5 then
                (nI nr, 1)
              else
                (if what = 6 then
                  (nI nc, 1)
                else
                  (if what = 7 then
                    (unight, 1)
                  else
                    (if what = 8 then
                      (uoil, 1)
                    else
                      (if what = 9 then
                        (if (tf_joins Wd tring) = true then
                          (1, 1)
                        else
                          (0, 1))
                      else
                        (if what = 10 then
                          zlet (xf_answer umayor) (fun t_14 =>
                          (t_14.1, t_14.2))
                        else
                          ((-1), 1)))))))))))))
theorem hd_X0_told : yX0_told.cls = RX0 ∧ yX0_told.cls ≠ "java/lang/invoke/MethodHandle" ∧ yX0_told.cls ≠ "java/lang/invoke/VarHandle" ∧ (parseMethodDescriptor yX0_told.desc).map (fun d => d.parameters.length) = some 1 := by decide +kernel
set_option maxHeartbeats 4000000 in
set_option maxRecDepth 100000 in
theorem mt_xf_told (l : Launch) (G : zG) (xA : Nat) (xa_trays : Nat) (xa_tape : Nat) (x_taped : Int32) (x_faultKind : Int32) (x_faultAt : Int32) (xa_bad : Nat) (xa_refused : Nat) (x_status : Int32) (x_above : Int64) (x_under : Int64) (nA : Nat) (xa_marks : Nat) (x_markMany : Int32) (xa_pictures : Nat) (x_lead : Int32) (x_round : Int32) (xa_ways : Nat) (x_bestSet : Int32) (x_bestMany : Int32) (x_left : Int32) (xa_aside : Nat) (xa_last : Nat) (x_hasLived : Bool) (uA : Nat) (n_year : Option Nat) (tA : Nat) (uA_bo : Nat) (uA_st : Nat) (uA_se : Nat) (ulit : Int32) (umayor : Int32) (unight : Int32) (uoil : Int32) (uborn : Nat → Int32) (ustays : Nat → Int32) (useen : Nat → Int32) (tA_be : Nat) (tA_le : Nat) (tA_mo : Nat) (tA_rn : Nat) (tA_cn : Nat) (tA_bo : Nat) (tA_st : Nat) (Wd : Nat) (R : Nat) (thouses : Int32) (talways : Int32) (tnever : Int32) (nr : Nat) (nc : Nat) (tring : Bool) (tbeside : Nat → Int32) (tleast : Nat → Int32) (tmost : Nat → Int32) (trnames : Nat → Int64) (what : Int32) (hT : tOK Wd R nr nc) (sz : Nat) : Met l yX0_told (ws_ yX0_told cX0_told 2 (some .int)) (zR 3 0 0) (zPm G sz [.ref xA, .int what] ((xA_ G xA xa_trays xa_tape x_taped x_faultKind x_faultAt xa_bad xa_refused x_status x_above x_under nA xa_marks x_markMany xa_pictures x_lead x_round xa_ways x_bestSet x_bestMany x_left xa_aside xa_last x_hasLived uA n_year) ++ (hW G uA tA uA_bo uA_st uA_se ulit umayor unight uoil uborn ustays useen) ++ (tW G tA tA_be tA_le tA_mo tA_rn tA_cn tA_bo tA_st (nI Wd) (nI R) thouses talways tnever (nI nr) (nI nc) tring tbeside tleast tmost trnames))) (zQm G (True) (some (.int ((xf_told ulit umayor unight uoil Wd R thouses talways tnever nr nc tring what).1))) ((xA_ G xA xa_trays xa_tape x_taped x_faultKind x_faultAt xa_bad xa_refused ((xf_told ulit umayor unight uoil Wd R thouses talways tnever nr nc tring what).2) x_above x_under nA xa_marks x_markMany xa_pictures x_lead x_round xa_ways x_bestSet x_bestMany x_left xa_aside xa_last x_hasLived uA n_year) ++ (hW G uA tA uA_bo uA_st uA_se ulit umayor unight uoil uborn ustays useen) ++ (tW G tA tA_be tA_le tA_mo tA_rn tA_cn tA_bo tA_st (nI Wd) (nI R) thouses talways tnever (nI nr) (nI nc) tring tbeside tleast tmost trnames)) (va_A ((xA_ G xA xa_trays xa_tape x_taped x_faultKind x_faultAt xa_bad xa_refused x_status x_above x_under nA xa_marks x_markMany xa_pictures x_lead x_round xa_ways x_bestSet x_bestMany x_left xa_aside xa_last x_hasLived uA n_year) ++ (hW G uA tA uA_bo uA_st uA_se ulit umayor unight uoil uborn ustays useen) ++ (tW G tA tA_be tA_le tA_mo tA_rn tA_cn tA_bo tA_st (nI Wd) (nI R) thouses talways tnever (nI nr) (nI nc) tring tbeside tleast tmost trnames)) sz)) 0 0 (va_A ((xA_ G xA xa_trays xa_tape x_taped x_faultKind x_faultAt xa_bad xa_refused x_status x_above x_under nA xa_marks x_markMany xa_pictures x_lead x_round xa_ways x_bestSet x_bestMany x_left xa_aside xa_last x_hasLived uA n_year) ++ (hW G uA tA uA_bo uA_st uA_se ulit umayor unight uoil uborn ustays useen) ++ (tW G tA tA_be tA_le tA_mo tA_rn tA_cn tA_bo tA_st (nI Wd) (nI R) thouses talways tnever (nI nr) (nI nc) tring tbeside tleast tmost trnames)) sz) := by
  refine zr_entM (by decide) (Nat.le_of_ble_eq_true rfl) ?_
  intro p e s m below meth c ⟨hx, hb, hr, hml, hown, hts, hlocks, hnm⟩ ls hl hP hK A hE hA hD hS
  have hown : s.vm.findClass RX0 = some m.cls := hown
  have hl : lv_has ls 2 [(0, .ref xA), (1, .int what)] := hl
  obtain ⟨H, hH⟩ : ∃ H, H = s.heap := ⟨_, rfl⟩
  obtain ⟨locs, hlo⟩ : ∃ L : List Loc, L = [] := ⟨_, rfl⟩
  rw [← hH] at hP
  have hS : va_S A s.heap H locs := by rw [hH, hlo]; exact va_S.rf
  have hgo : W p l e (zR 3 0 0) s m ([.ref xA, .int what] : List Value).toArray below meth c H locs 0 0 (MQ below (zQm G (True) (some (.int ((xf_told ulit umayor unight uoil Wd R thouses talways tnever nr nc tring what).1))) ((xA_ G xA xa_trays xa_tape x_taped x_faultKind x_faultAt xa_bad xa_refused ((xf_told ulit umayor unight uoil Wd R thouses talways tnever nr nc tring what).2) x_above x_under nA xa_marks x_markMany xa_pictures x_lead x_round xa_ways x_bestSet x_bestMany x_left xa_aside xa_last x_hasLived uA n_year) ++ (hW G uA tA uA_bo uA_st uA_se ulit umayor unight uoil uborn ustays useen) ++ (tW G tA tA_be tA_le tA_mo tA_rn tA_cn tA_bo tA_st (nI Wd) (nI R) thouses talways tnever (nI nr) (nI nc) tring tbeside tleast tmost trnames)) A) ([.ref xA, .int what] : List Value).toArray s 0 0 A) (F0 m 0 ls []) := ?_
  · rw [hH, hlo] at hgo; exact hgo
  clear hH hlo
  have hTT := hT
  obtain ⟨hW0, hW5, hR0, hR6, hn4, hc6, hWR⟩ := hTT
  refine lv_aload_n hx hb dX0_told_0 rfl (lv_at hl 0 rfl) ?_
  refine lv_iload_n hx hb dX0_told_1 rfl (lv_at hl 1 rfl) ?_
  refine lv_i2l hx hb dX0_told_2 rfl ?_
  refine lv_lconst (v := 0) hx hb dX0_told_3 rfl ?_
  refine lv_ldc2 (v := 10) hx hb hown (hts _ q968) dX0_told_4 ?_
  refine zr_puS ⟨hx, hb, hml, hown, hts⟩ (mt_xf_isIn l what.toInt64 0 10) (va_cwS 3 hts (lw_S q969 q970 q135 q971) rfl rfl rfl hd_X0_isIn.2 ⟨(Nat.le_of_ble_eq_true rfl), (Nat.le_of_ble_eq_true rfl)⟩) rfl hl.1 rfl (Nat.le_of_ble_eq_true rfl) dX0_told_7 ⟨Nat.le_refl _, Nat.le_refl _⟩ ?_
  refine zr_eqB (xf_isIn what.toInt64 0 10) (tgt := 17) hx hb dX0_told_10 (by decide) (fun c_1 => ?_) (fun c_1 => ?_)
  · refine lv_iconst (v := 1) hx hb dX0_told_17 (by decide) ?_
    refine va_put (D := G.1) (ci := 0) (v := .int 1) (ty := .int) (C := RX0) (T := TX0) (N := 23) hx hb hts in_X0 tyX0 tyX0_ok nmX0 hown hK.1 hP hD hS 0 rfl rfl 7 (Nat.le_of_ble_eq_true rfl) (hts _ q432) (fun _ h => h) rfl (tyX0_ok 7 (Nat.le_of_ble_eq_true rfl)) rfl rfl (Nat.le_of_ble_eq_true rfl) dX0_told_18 (fun H locs hP hD hS => ?_)
    have hP : va_P G.1 zcl ((xA_ G xA xa_trays xa_tape x_taped x_faultKind x_faultAt xa_bad xa_refused 1 x_above x_under nA xa_marks x_markMany xa_pictures x_lead x_round xa_ways x_bestSet x_bestMany x_left xa_aside xa_last x_hasLived uA n_year) ++ (hW G uA tA uA_bo uA_st uA_se ulit umayor unight uoil uborn ustays useen) ++ (tW G tA tA_be tA_le tA_mo tA_rn tA_cn tA_bo tA_st (nI Wd) (nI R) thouses talways tnever (nI nr) (nI nc) tring tbeside tleast tmost trnames)) H := hP
    have hD : va_D A ((xA_ G xA xa_trays xa_tape x_taped x_faultKind x_faultAt xa_bad xa_refused 1 x_above x_under nA xa_marks x_markMany xa_pictures x_lead x_round xa_ways x_bestSet x_bestMany x_left xa_aside xa_last x_hasLived uA n_year) ++ (hW G uA tA uA_bo uA_st uA_se ulit umayor unight uoil uborn ustays useen) ++ (tW G tA tA_be tA_le tA_mo tA_rn tA_cn tA_bo tA_st (nI Wd) (nI R) thouses talways tnever (nI nr) (nI nc) tring tbeside tleast tmost trnames)) := hD
    refine lv_iload_n hx hb dX0_told_21 rfl (lv_at hl 1 rfl) ?_
    rcases Classical.em (what = 0) with c_2 | c_2
    · refine lv_tableIn (off := 58) (tgt := 80) hx hb dX0_told_22 (by rw [c_2]; decide) (by rw [c_2]; decide) (by rw [c_2]; rfl) (by decide) ?_
      refine lv_aload_n hx hb dX0_told_80 rfl (lv_at hl 0 rfl) ?_
      refine zr_obV ⟨hx, hb, hml, hown, hts⟩ (mt_xf_at l G xA xa_trays xa_tape x_taped x_faultKind x_faultAt xa_bad xa_refused 1 x_above x_under nA xa_marks x_markMany xa_pictures x_lead x_round xa_ways x_bestSet x_bestMany x_left xa_aside xa_last x_hasLived uA n_year tA uA_bo uA_st uA_se ulit umayor unight uoil uborn ustays useen tA_be tA_le tA_mo tA_rn tA_cn tA_bo tA_st Wd R thouses talways tnever nr nc tring tbeside tleast tmost trnames hT) (cwV 0 hts (lw_V q891 q893 qs28 q135 q894) rfl rfl rfl hd_X0_at ⟨(Nat.le_of_ble_eq_true rfl), (Nat.le_of_ble_eq_true rfl)⟩) hP hK (zE_o hE hS) 0 0 rfl rfl rfl hl.1 rfl (Nat.le_of_ble_eq_true rfl) dX0_told_81 ⟨Nat.le_refl _, Nat.le_refl _⟩ ?_
      refine va_getN (D := G.1) (ci := 6) (v := .int (nI Wd)) (C := RX6) (T := TX6) (N := 15) hx hb hts in_X6 hown hK.1 hP 6 rfl rfl 0 (Nat.le_of_ble_eq_true rfl) ((hK.2.1.1 _ (List.mem_of_getElem? (i := 4) rfl)).use rfl) (fun _ h => h) rfl dX0_told_84 ?_
      have e_ : xf_told ulit umayor unight uoil Wd R thouses talways tnever nr nc tring what = (nI Wd, 1) := by rw [xf_told, if_neg c_1, if_pos c_2]
      exact zr_mi hx hb hr hlocks hP hD hS dX0_told_87 (by rw [e_])  (by rw [e_]) trivial
    · rcases Classical.em (what = 1) with c_3 | c_3
      · refine lv_tableIn (off := 66) (tgt := 88) hx hb dX0_told_22 (by rw [c_3]; decide) (by rw [c_3]; decide) (by rw [c_3]; rfl) (by decide) ?_
        refine lv_aload_n hx hb dX0_told_88 rfl (lv_at hl 0 rfl) ?_
        refine zr_obV ⟨hx, hb, hml, hown, hts⟩ (mt_xf_at l G xA xa_trays xa_tape x_taped x_faultKind x_faultAt xa_bad xa_refused 1 x_above x_under nA xa_marks x_markMany xa_pictures x_lead x_round xa_ways x_bestSet x_bestMany x_left xa_aside xa_last x_hasLived uA n_year tA uA_bo uA_st uA_se ulit umayor unight uoil uborn ustays useen tA_be tA_le tA_mo tA_rn tA_cn tA_bo tA_st Wd R thouses talways tnever nr nc tring tbeside tleast tmost trnames hT) (cwV 0 hts (lw_V q891 q893 qs28 q135 q894) rfl rfl rfl hd_X0_at ⟨(Nat.le_of_ble_eq_true rfl), (Nat.le_of_ble_eq_true rfl)⟩) hP hK (zE_o hE hS) 0 0 rfl rfl rfl hl.1 rfl (Nat.le_of_ble_eq_true rfl) dX0_told_89 ⟨Nat.le_refl _, Nat.le_refl _⟩ ?_
        refine va_getN (D := G.1) (ci := 6) (v := .int (nI R)) (C := RX6) (T := TX6) (N := 15) hx hb hts in_X6 hown hK.1 hP 6 rfl rfl 1 (Nat.le_of_ble_eq_true rfl) ((hK.2.1.1 _ (List.mem_of_getElem? (i := 5) rfl)).use rfl) (fun _ h => h) rfl dX0_told_92 ?_
        have e_ : xf_told ulit umayor unight uoil Wd R thouses talways tnever nr nc tring what = (nI R, 1) := by rw [xf_told, if_neg c_1, if_neg c_2, if_pos c_3]
        exact zr_mi hx hb hr hlocks hP hD hS dX0_told_95 (by rw [e_])  (by rw [e_]) trivial
      · rcases Classical.em (what = 2) with c_4 | c_4
        · refine lv_tableIn (off := 74) (tgt := 96) hx hb dX0_told_22 (by rw [c_4]; decide) (by rw [c_4]; decide) (by rw [c_4]; rfl) (by decide) ?_
          refine lv_aload_n hx hb dX0_told_96 rfl (lv_at hl 0 rfl) ?_
          refine zr_obV ⟨hx, hb, hml, hown, hts⟩ (mt_xf_at l G xA xa_trays xa_tape x_taped x_faultKind x_faultAt xa_bad xa_refused 1 x_above x_under nA xa_marks x_markMany xa_pictures x_lead x_round xa_ways x_bestSet x_bestMany x_left xa_aside xa_last x_hasLived uA n_year tA uA_bo uA_st uA_se ulit umayor unight uoil uborn ustays useen tA_be tA_le tA_mo tA_rn tA_cn tA_bo tA_st Wd R thouses talways tnever nr nc tring tbeside tleast tmost trnames hT) (cwV 0 hts (lw_V q891 q893 qs28 q135 q894) rfl rfl rfl hd_X0_at ⟨(Nat.le_of_ble_eq_true rfl), (Nat.le_of_ble_eq_true rfl)⟩) hP hK (zE_o hE hS) 0 0 rfl rfl rfl hl.1 rfl (Nat.le_of_ble_eq_true rfl) dX0_told_97 ⟨Nat.le_refl _, Nat.le_refl _⟩ ?_
          refine va_getN (D := G.1) (ci := 6) (v := .int thouses) (C := RX6) (T := TX6) (N := 15) hx hb hts in_X6 hown hK.1 hP 6 rfl rfl 2 (Nat.le_of_ble_eq_true rfl) ((hK.2.1.1 _ (List.mem_of_getElem? (i := 12) rfl)).use rfl) (fun _ h => h) rfl dX0_told_100 ?_
          refine zr_puS ⟨hx, hb, hml, hown, hts⟩ (mt_xf_many l thouses) (va_cwS 1 hts (lw_S q850 q851 q135 q852) rfl rfl rfl hd_X0_many.2 ⟨(Nat.le_of_ble_eq_true rfl), (Nat.le_of_ble_eq_true rfl)⟩) rfl hl.1 rfl (Nat.le_of_ble_eq_true rfl) dX0_told_103 ⟨Nat.le_refl _, Nat.le_refl _⟩ ?_
          have e_ : xf_told ulit umayor unight uoil Wd R thouses talways tnever nr nc tring what = (nI (zpc thouses), 1) := by rw [xf_told, if_neg c_1, if_neg c_2, if_neg c_3, if_pos c_4]
          exact zr_mi hx hb hr hlocks hP hD hS dX0_told_106 (by rw [e_])  (by rw [e_]) trivial
        · rcases Classical.em (what = 3) with c_5 | c_5
          · refine lv_tableIn (off := 85) (tgt := 107) hx hb dX0_told_22 (by rw [c_5]; decide) (by rw [c_5]; decide) (by rw [c_5]; rfl) (by decide) ?_
            refine lv_aload_n hx hb dX0_told_107 rfl (lv_at hl 0 rfl) ?_
            refine zr_obV ⟨hx, hb, hml, hown, hts⟩ (mt_xf_hill l G xA xa_trays xa_tape x_taped x_faultKind x_faultAt xa_bad xa_refused 1 x_above x_under nA xa_marks x_markMany xa_pictures x_lead x_round xa_ways x_bestSet x_bestMany x_left xa_aside xa_last x_hasLived uA n_year tA uA_bo uA_st uA_se ulit umayor unight uoil uborn ustays useen tA_be tA_le tA_mo tA_rn tA_cn tA_bo tA_st Wd R thouses talways tnever nr nc tring tbeside tleast tmost trnames hT) (cwV 0 hts (lw_V q841 q843 qs26 q135 q844) rfl rfl rfl hd_X0_hill ⟨(Nat.le_of_ble_eq_true rfl), (Nat.le_of_ble_eq_true rfl)⟩) hP hK (zE_o hE hS) 0 0 rfl rfl rfl hl.1 rfl (Nat.le_of_ble_eq_true rfl) dX0_told_108 ⟨Nat.le_refl _, Nat.le_refl _⟩ ?_
            refine va_getN (D := G.1) (ci := 5) (v := .int ulit) (C := RX5) (T := TX5) (N := 8) hx hb hts in_X5 hown hK.1 hP 2 rfl rfl 4 (Nat.le_of_ble_eq_true rfl) ((hK.2.1.1 _ (List.mem_of_getElem? (i := 14) rfl)).use rfl) (fun _ h => h) rfl dX0_told_111 ?_
            refine zr_puS ⟨hx, hb, hml, hown, hts⟩ (mt_xf_many l ulit) (va_cwS 1 hts (lw_S q850 q851 q135 q852) rfl rfl rfl hd_X0_many.2 ⟨(Nat.le_of_ble_eq_true rfl), (Nat.le_of_ble_eq_true rfl)⟩) rfl hl.1 rfl (Nat.le_of_ble_eq_true rfl) dX0_told_114 ⟨Nat.le_refl _, Nat.le_refl _⟩ ?_
            have e_ : xf_told ulit umayor unight uoil Wd R thouses talways tnever nr nc tring what = (nI (zpc ulit), 1) := by rw [xf_told, if_neg c_1, if_neg c_2, if_neg c_3, if_neg c_4, if_pos c_5]
            exact zr_mi hx hb hr hlocks hP hD hS dX0_told_117 (by rw [e_])  (by rw [e_]) trivial
          · rcases Classical.em (what = 4) with c_6 | c_6
            · refine lv_tableIn (off := 96) (tgt := 118) hx hb dX0_told_22 (by rw [c_6]; decide) (by rw [c_6]; decide) (by rw [c_6]; rfl) (by decide) ?_
              refine lv_aload_n hx hb dX0_told_118 rfl (lv_at hl 0 rfl) ?_
              refine zr_obV ⟨hx, hb, hml, hown, hts⟩ (mt_xf_at l G xA xa_trays xa_tape x_taped x_faultKind x_faultAt xa_bad xa_refused 1 x_above x_under nA xa_marks x_markMany xa_pictures x_lead x_round xa_ways x_bestSet x_bestMany x_left xa_aside xa_last x_hasLived uA n_year tA uA_bo uA_st uA_se ulit umayor unight uoil uborn ustays useen tA_be tA_le tA_mo tA_rn tA_cn tA_bo tA_st Wd R thouses talways tnever nr nc tring tbeside tleast tmost trnames hT) (cwV 0 hts (lw_V q891 q893 qs28 q135 q894) rfl rfl rfl hd_X0_at ⟨(Nat.le_of_ble_eq_true rfl), (Nat.le_of_ble_eq_true rfl)⟩) hP hK (zE_o hE hS) 0 0 rfl rfl rfl hl.1 rfl (Nat.le_of_ble_eq_true rfl) dX0_told_119 ⟨Nat.le_refl _, Nat.le_refl _⟩ ?_
              refine zr_obV ⟨hx, hb, hml, hown, hts⟩ (mt_tf_stuck l G tA tA_be tA_le tA_mo tA_rn tA_cn tA_bo tA_st Wd R thouses talways tnever (nI nr) (nI nc) tring tbeside tleast tmost trnames) (cwV 0 hts (lw_V q972 q973 q974 q143 q975) rfl rfl rfl hd_X6_stuck ⟨(Nat.le_of_ble_eq_true rfl), (Nat.le_of_ble_eq_true rfl)⟩) (zP_sub hP (ws' := (tW G tA tA_be tA_le tA_mo tA_rn tA_cn tA_bo tA_st (nI Wd) (nI R) thouses talways tnever (nI nr) (nI nc) tring tbeside tleast tmost trnames)) [6, 7, 8, 9, 10] rfl) hK (zE_o hE hS) 0 6 rfl rfl rfl hl.1 rfl (Nat.le_of_ble_eq_true rfl) dX0_told_122 ⟨Nat.le_refl _, Nat.le_refl _⟩ ?_
              refine zr_puS ⟨hx, hb, hml, hown, hts⟩ (mt_xf_many l (talways ||| tnever)) (va_cwS 1 hts (lw_S q850 q851 q135 q852) rfl rfl rfl hd_X0_many.2 ⟨(Nat.le_of_ble_eq_true rfl), (Nat.le_of_ble_eq_true rfl)⟩) rfl hl.1 rfl (Nat.le_of_ble_eq_true rfl) dX0_told_125 ⟨Nat.le_refl _, Nat.le_refl _⟩ ?_
              have e_ : xf_told ulit umayor unight uoil Wd R thouses talways tnever nr nc tring what = (nI (zpc (talways ||| tnever)), 1) := by rw [xf_told, if_neg c_1, if_neg c_2, if_neg c_3, if_neg c_4, if_neg c_5, if_pos c_6]
              exact zr_mi hx hb hr hlocks hP hD hS dX0_told_128 (by rw [e_])  (by rw [e_]) trivial
            · rcases Classical.em (what = 5) with c_7 | c_7
              · refine lv_tableIn (off := 107) (tgt := 129) hx hb dX0_told_22 (by rw [c_7]; decide) (by rw [c_7]; decide) (by rw [c_7]; rfl) (by decide) ?_
                refine lv_aload_n hx hb dX0_told_129 rfl (lv_at hl 0 rfl) ?_
                refine zr_obV ⟨hx, hb, hml, hown, hts⟩ (mt_xf_at l G xA xa_trays xa_tape x_taped x_faultKind x_faultAt xa_bad xa_refused 1 x_above x_under nA xa_marks x_markMany xa_pictures x_lead x_round xa_ways x_bestSet x_bestMany x_left xa_aside xa_last x_hasLived uA n_year tA uA_bo uA_st uA_se ulit umayor unight uoil uborn ustays useen tA_be tA_le tA_mo tA_rn tA_cn tA_bo tA_st Wd R thouses talways tnever nr nc tring tbeside tleast tmost trnames hT) (cwV 0 hts (lw_V q891 q893 qs28 q135 q894) rfl rfl rfl hd_X0_at ⟨(Nat.le_of_ble_eq_true rfl), (Nat.le_of_ble_eq_true rfl)⟩) hP hK (zE_o hE hS) 0 0 rfl rfl rfl hl.1 rfl (Nat.le_of_ble_eq_true rfl) dX0_told_130 ⟨Nat.le_refl _, Nat.le_refl _⟩ ?_
                refine va_getN (D := G.1) (ci := 6) (v := .int (nI nr)) (C := RX6) (T := TX6) (N := 15) hx hb hts in_X6 hown hK.1 hP 6 rfl rfl 5 (Nat.le_of_ble_eq_true rfl) ((hK.2.1.1 _ (List.mem_of_getElem? (i := 6) rfl)).use rfl) (fun _ h => h) rfl dX0_told_133 ?_
                have e_ : xf_told ulit umayor unight uoil Wd R thouses talways tnever nr nc tring what = (nI nr, 1) := by rw [xf_told, if_neg c_1, if_neg c_2, if_neg c_3, if_neg c_4, if_neg c_5, if_neg c_6, if_pos c_7]
                exact zr_mi hx hb hr hlocks hP hD hS dX0_told_136 (by rw [e_])  (by rw [e_]) trivial
              · rcases Classical.em (what = 6) with c_8 | c_8
                · refine lv_tableIn (off := 115) (tgt := 137) hx hb dX0_told_22 (by rw [c_8]; decide) (by rw [c_8]; decide) (by rw [c_8]; rfl) (by decide) ?_
                  refine lv_aload_n hx hb dX0_told_137 rfl (lv_at hl 0 rfl) ?_
                  refine zr_obV ⟨hx, hb, hml, hown, hts⟩ (mt_xf_at l G xA xa_trays xa_tape x_taped x_faultKind x_faultAt xa_bad xa_refused 1 x_above x_under nA xa_marks x_markMany xa_pictures x_lead x_round xa_ways x_bestSet x_bestMany x_left xa_aside xa_last x_hasLived uA n_year tA uA_bo uA_st uA_se ulit umayor unight uoil uborn ustays useen tA_be tA_le tA_mo tA_rn tA_cn tA_bo tA_st Wd R thouses talways tnever nr nc tring tbeside tleast tmost trnames hT) (cwV 0 hts (lw_V q891 q893 qs28 q135 q894) rfl rfl rfl hd_X0_at ⟨(Nat.le_of_ble_eq_true rfl), (Nat.le_of_ble_eq_true rfl)⟩) hP hK (zE_o hE hS) 0 0 rfl rfl rfl hl.1 rfl (Nat.le_of_ble_eq_true rfl) dX0_told_138 ⟨Nat.le_refl _, Nat.le_refl _⟩ ?_
                  refine va_getN (D := G.1) (ci := 6) (v := .int (nI nc)) (C := RX6) (T := TX6) (N := 15) hx hb hts in_X6 hown hK.1 hP 6 rfl rfl 6 (Nat.le_of_ble_eq_true rfl) ((hK.2.1.1 _ (List.mem_of_getElem? (i := 7) rfl)).use rfl) (fun _ h => h) rfl dX0_told_141 ?_
                  have e_ : xf_told ulit umayor unight uoil Wd R thouses talways tnever nr nc tring what = (nI nc, 1) := by rw [xf_told, if_neg c_1, if_neg c_2, if_neg c_3, if_neg c_4, if_neg c_5, if_neg c_6, if_neg c_7, if_pos c_8]
                  exact zr_mi hx hb hr hlocks hP hD hS dX0_told_144 (by rw [e_])  (by rw [e_]) trivial
                · rcases Classical.em (what = 7) with c_9 | c_9
                  · refine lv_tableIn (off := 123) (tgt := 145) hx hb dX0_told_22 (by rw [c_9]; decide) (by rw [c_9]; decide) (by rw [c_9]; rfl) (by decide) ?_
                    refine lv_aload_n hx hb dX0_told_145 rfl (lv_at hl 0 rfl) ?_
                    refine zr_obV ⟨hx, hb, hml, hown, hts⟩ (mt_xf_hill l G xA xa_trays xa_tape x_taped x_faultKind x_faultAt xa_bad xa_refused 1 x_above x_under nA xa_marks x_markMany xa_pictures x_lead x_round xa_ways x_bestSet x_bestMany x_left xa_aside xa_last x_hasLived uA n_year tA uA_bo uA_st uA_se ulit umayor unight uoil uborn ustays useen tA_be tA_le tA_mo tA_rn tA_cn tA_bo tA_st Wd R thouses talways tnever nr nc tring tbeside tleast tmost trnames hT) (cwV 0 hts (lw_V q841 q843 qs26 q135 q844) rfl rfl rfl hd_X0_hill ⟨(Nat.le_of_ble_eq_true rfl), (Nat.le_of_ble_eq_true rfl)⟩) hP hK (zE_o hE hS) 0 0 rfl rfl rfl hl.1 rfl (Nat.le_of_ble_eq_true rfl) dX0_told_146 ⟨Nat.le_refl _, Nat.le_refl _⟩ ?_
                    refine va_getN (D := G.1) (ci := 5) (v := .int unight) (C := RX5) (T := TX5) (N := 8) hx hb hts in_X5 hown hK.1 hP 2 rfl rfl 6 (Nat.le_of_ble_eq_true rfl) ((hK.2.1.1 _ (List.mem_of_getElem? (i := 15) rfl)).use rfl) (fun _ h => h) rfl dX0_told_149 ?_
                    have e_ : xf_told ulit umayor unight uoil Wd R thouses talways tnever nr nc tring what = (unight, 1) := by rw [xf_told, if_neg c_1, if_neg c_2, if_neg c_3, if_neg c_4, if_neg c_5, if_neg c_6, if_neg c_7, if_neg c_8, if_pos c_9]
                    exact zr_mi hx hb hr hlocks hP hD hS dX0_told_152 (by rw [e_])  (by rw [e_]) trivial
                  · rcases Classical.em (what = 8) with c_10 | c_10
                    · refine lv_tableIn (off := 131) (tgt := 153) hx hb dX0_told_22 (by rw [c_10]; decide) (by rw [c_10]; decide) (by rw [c_10]; rfl) (by decide) ?_
                      refine lv_aload_n hx hb dX0_told_153 rfl (lv_at hl 0 rfl) ?_
                      refine zr_obV ⟨hx, hb, hml, hown, hts⟩ (mt_xf_hill l G xA xa_trays xa_tape x_taped x_faultKind x_faultAt xa_bad xa_refused 1 x_above x_under nA xa_marks x_markMany xa_pictures x_lead x_round xa_ways x_bestSet x_bestMany x_left xa_aside xa_last x_hasLived uA n_year tA uA_bo uA_st uA_se ulit umayor unight uoil uborn ustays useen tA_be tA_le tA_mo tA_rn tA_cn tA_bo tA_st Wd R thouses talways tnever nr nc tring tbeside tleast tmost trnames hT) (cwV 0 hts (lw_V q841 q843 qs26 q135 q844) rfl rfl rfl hd_X0_hill ⟨(Nat.le_of_ble_eq_true rfl), (Nat.le_of_ble_eq_true rfl)⟩) hP hK (zE_o hE hS) 0 0 rfl rfl rfl hl.1 rfl (Nat.le_of_ble_eq_true rfl) dX0_told_154 ⟨Nat.le_refl _, Nat.le_refl _⟩ ?_
                      refine va_getN (D := G.1) (ci := 5) (v := .int uoil) (C := RX5) (T := TX5) (N := 8) hx hb hts in_X5 hown hK.1 hP 2 rfl rfl 7 (Nat.le_of_ble_eq_true rfl) ((hK.2.1.1 _ (List.mem_of_getElem? (i := 16) rfl)).use rfl) (fun _ h => h) rfl dX0_told_157 ?_
                      have e_ : xf_told ulit umayor unight uoil Wd R thouses talways tnever nr nc tring what = (uoil, 1) := by rw [xf_told, if_neg c_1, if_neg c_2, if_neg c_3, if_neg c_4, if_neg c_5, if_neg c_6, if_neg c_7, if_neg c_8, if_neg c_9, if_pos c_10]
                      exact zr_mi hx hb hr hlocks hP hD hS dX0_told_160 (by rw [e_])  (by rw [e_]) trivial
                    · rcases Classical.em (what = 9) with c_11 | c_11
                      · refine lv_tableIn (off := 139) (tgt := 161) hx hb dX0_told_22 (by rw [c_11]; decide) (by rw [c_11]; decide) (by rw [c_11]; rfl) (by decide) ?_
                        refine lv_aload_n hx hb dX0_told_161 rfl (lv_at hl 0 rfl) ?_
                        refine zr_obV ⟨hx, hb, hml, hown, hts⟩ (mt_xf_at l G xA xa_trays xa_tape x_taped x_faultKind x_faultAt xa_bad xa_refused 1 x_above x_under nA xa_marks x_markMany xa_pictures x_lead x_round xa_ways x_bestSet x_bestMany x_left xa_aside xa_last x_hasLived uA n_year tA uA_bo uA_st uA_se ulit umayor unight uoil uborn ustays useen tA_be tA_le tA_mo tA_rn tA_cn tA_bo tA_st Wd R thouses talways tnever nr nc tring tbeside tleast tmost trnames hT) (cwV 0 hts (lw_V q891 q893 qs28 q135 q894) rfl rfl rfl hd_X0_at ⟨(Nat.le_of_ble_eq_true rfl), (Nat.le_of_ble_eq_true rfl)⟩) hP hK (zE_o hE hS) 0 0 rfl rfl rfl hl.1 rfl (Nat.le_of_ble_eq_true rfl) dX0_told_162 ⟨Nat.le_refl _, Nat.le_refl _⟩ ?_
                        refine zr_obV ⟨hx, hb, hml, hown, hts⟩ (mt_tf_joins l G tA tA_be tA_le tA_mo tA_rn tA_cn tA_bo tA_st Wd R thouses talways tnever (nI nr) (nI nc) tring tbeside tleast tmost trnames (by first | assumption | exact hW5 | omega)) (cwV 0 hts (lw_V q976 q838 q839 q143 q840) rfl rfl rfl hd_X6_joins ⟨(Nat.le_of_ble_eq_true rfl), (Nat.le_of_ble_eq_true rfl)⟩) (zP_sub hP (ws' := (tW G tA tA_be tA_le tA_mo tA_rn tA_cn tA_bo tA_st (nI Wd) (nI R) thouses talways tnever (nI nr) (nI nc) tring tbeside tleast tmost trnames)) [6, 7, 8, 9, 10] rfl) hK (zE_o hE hS) 0 6 rfl rfl rfl hl.1 rfl (Nat.le_of_ble_eq_true rfl) dX0_told_165 ⟨Nat.le_refl _, Nat.le_refl _⟩ ?_
                        refine zr_eqB (tf_joins Wd tring) (tgt := 175) hx hb dX0_told_168 (by decide) (fun c_12 => ?_) (fun c_12 => ?_)
                        · refine lv_iconst (v := 0) hx hb dX0_told_175 (by decide) ?_
                          have e_ : xf_told ulit umayor unight uoil Wd R thouses talways tnever nr nc tring what = (0, 1) := by rw [xf_told, if_neg c_1, if_neg c_2, if_neg c_3, if_neg c_4, if_neg c_5, if_neg c_6, if_neg c_7, if_neg c_8, if_neg c_9, if_neg c_10, if_pos c_11, if_neg c_12]
                          exact zr_mi hx hb hr hlocks hP hD hS dX0_told_176 (by rw [e_])  (by rw [e_]) trivial
                        · refine lv_iconst (v := 1) hx hb dX0_told_171 (by decide) ?_
                          refine lv_goto (tgt := 176) hx hb dX0_told_172 (by decide) ?_
                          have e_ : xf_told ulit umayor unight uoil Wd R thouses talways tnever nr nc tring what = (1, 1) := by rw [xf_told, if_neg c_1, if_neg c_2, if_neg c_3, if_neg c_4, if_neg c_5, if_neg c_6, if_neg c_7, if_neg c_8, if_neg c_9, if_neg c_10, if_pos c_11, if_pos c_12]
                          exact zr_mi hx hb hr hlocks hP hD hS dX0_told_176 (by rw [e_])  (by rw [e_]) trivial
                      · rcases Classical.em (what = 10) with c_13 | c_13
                        · refine lv_tableIn (off := 155) (tgt := 177) hx hb dX0_told_22 (by rw [c_13]; decide) (by rw [c_13]; decide) (by rw [c_13]; rfl) (by decide) ?_
                          refine lv_aload_n hx hb dX0_told_177 rfl (lv_at hl 0 rfl) ?_
                          refine lv_aload_n hx hb dX0_told_178 rfl (lv_at hl 0 rfl) ?_
                          refine zr_obV ⟨hx, hb, hml, hown, hts⟩ (mt_xf_hill l G xA xa_trays xa_tape x_taped x_faultKind x_faultAt xa_bad xa_refused 1 x_above x_under nA xa_marks x_markMany xa_pictures x_lead x_round xa_ways x_bestSet x_bestMany x_left xa_aside xa_last x_hasLived uA n_year tA uA_bo uA_st uA_se ulit umayor unight uoil uborn ustays useen tA_be tA_le tA_mo tA_rn tA_cn tA_bo tA_st Wd R thouses talways tnever nr nc tring tbeside tleast tmost trnames hT) (cwV 0 hts (lw_V q841 q843 qs26 q135 q844) rfl rfl rfl hd_X0_hill ⟨(Nat.le_of_ble_eq_true rfl), (Nat.le_of_ble_eq_true rfl)⟩) hP hK (zE_o hE hS) 0 0 rfl rfl rfl hl.1 rfl (Nat.le_of_ble_eq_true rfl) dX0_told_179 ⟨Nat.le_refl _, Nat.le_refl _⟩ ?_
                          refine va_getN (D := G.1) (ci := 5) (v := .int umayor) (C := RX5) (T := TX5) (N := 8) hx hb hts in_X5 hown hK.1 hP 2 rfl rfl 5 (Nat.le_of_ble_eq_true rfl) ((hK.2.1.1 _ (List.mem_of_getElem? (i := 17) rfl)).use rfl) (fun _ h => h) rfl dX0_told_182 ?_
                          refine zr_muV (F := xf_answer umayor) (ff := fun t_14 => True) (rr := fun t_14 => some (.int t_14.1)) (w1 := fun t_14 => ((xA_ G xA xa_trays xa_tape x_taped x_faultKind x_faultAt xa_bad xa_refused t_14.2 x_above x_under nA xa_marks x_markMany xa_pictures x_lead x_round xa_ways x_bestSet x_bestMany x_left xa_aside xa_last x_hasLived uA n_year) ++ (hW G uA tA uA_bo uA_st uA_se ulit umayor unight uoil uborn ustays useen) ++ (tW G tA tA_be tA_le tA_mo tA_rn tA_cn tA_bo tA_st (nI Wd) (nI R) thouses talways tnever (nI nr) (nI nc) tring tbeside tleast tmost trnames))) ⟨hx, hb, hml, hown, hts⟩ (mt_xf_answer l G xA xa_trays xa_tape x_taped x_faultKind x_faultAt xa_bad xa_refused 1 x_above x_under nA xa_marks x_markMany xa_pictures x_lead x_round xa_ways x_bestSet x_bestMany x_left xa_aside xa_last x_hasLived uA n_year tA uA_bo uA_st uA_se ulit umayor unight uoil uborn ustays useen tA_be tA_le tA_mo tA_rn tA_cn tA_bo tA_st Wd R thouses talways tnever nr nc tring tbeside tleast tmost trnames umayor hT H.size) (cwV 1 hts (lw_V q977 q979 qs34 q135 q980) rfl rfl rfl hd_X0_answer ⟨(Nat.le_of_ble_eq_true rfl), (Nat.le_of_ble_eq_true rfl)⟩) hP hD hS hA hK hE 0 0 rfl rfl rfl hl.1 rfl (Nat.le_of_ble_eq_true rfl) dX0_told_185 ⟨Nat.le_refl _, Nat.le_refl _⟩ (fun t_14 ht_14 hft_14 H locs hP hD hS _ => ?_)
                          refine W.eq (g2 := F0 m 188 ls [.int t_14.1]) rfl ?_
                          have e_ : xf_told ulit umayor unight uoil Wd R thouses talways tnever nr nc tring what = (t_14.1, t_14.2) := by rw [xf_told, if_neg c_1, if_neg c_2, if_neg c_3, if_neg c_4, if_neg c_5, if_neg c_6, if_neg c_7, if_neg c_8, if_neg c_9, if_neg c_10, if_neg c_11, if_pos c_13, zlet_eq ht_14]
                          exact zr_mi hx hb hr hlocks hP hD hS dX0_told_188 (by rw [e_])  (by rw [e_]) trivial
                        · refine lv_tableOut (tgt := 189) hx hb dX0_told_22 (z_out what (lo := 0) (hi := 10) (fun z h1 h2 => have h3 : z = 0 ∨ z = 1 ∨ z = 2 ∨ z = 3 ∨ z = 4 ∨ z = 5 ∨ z = 6 ∨ z = 7 ∨ z = 8 ∨ z = 9 ∨ z = 10 := (by omega); (h3.elim (fun h3 => z_outq c_2 (by decide) h3) (fun h3 => (h3.elim (fun h3 => z_outq c_3 (by decide) h3) (fun h3 => (h3.elim (fun h3 => z_outq c_4 (by decide) h3) (fun h3 => (h3.elim (fun h3 => z_outq c_5 (by decide) h3) (fun h3 => (h3.elim (fun h3 => z_outq c_6 (by decide) h3) (fun h3 => (h3.elim (fun h3 => z_outq c_7 (by decide) h3) (fun h3 => (h3.elim (fun h3 => z_outq c_8 (by decide) h3) (fun h3 => (h3.elim (fun h3 => z_outq c_9 (by decide) h3) (fun h3 => (h3.elim (fun h3 => z_outq c_10 (by decide) h3) (fun h3 => (h3.elim (fun h3 => z_outq c_11 (by decide) h3) (fun h3 => (z_outq c_13 (by decide) h3))))))))))))))))))))))) (by decide) ?_
                          refine lv_iconst (v := (-1)) hx hb dX0_told_189 (by decide) ?_
                          have e_ : xf_told ulit umayor unight uoil Wd R thouses talways tnever nr nc tring what = ((-1), 1) := by rw [xf_told, if_neg c_1, if_neg c_2, if_neg c_3, if_neg c_4, if_neg c_5, if_neg c_6, if_neg c_7, if_neg c_8, if_neg c_9, if_neg c_10, if_neg c_11, if_neg c_13]
                          exact zr_mi hx hb hr hlocks hP hD hS dX0_told_190 (by rw [e_])  (by rw [e_]) trivial
  · refine lv_iconst (v := 0) hx hb dX0_told_13 (by decide) ?_
    refine lv_goto (tgt := 18) hx hb dX0_told_14 (by decide) ?_
    refine va_put (D := G.1) (ci := 0) (v := .int 0) (ty := .int) (C := RX0) (T := TX0) (N := 23) hx hb hts in_X0 tyX0 tyX0_ok nmX0 hown hK.1 hP hD hS 0 rfl rfl 7 (Nat.le_of_ble_eq_true rfl) (hts _ q432) (fun _ h => h) rfl (tyX0_ok 7 (Nat.le_of_ble_eq_true rfl)) rfl rfl (Nat.le_of_ble_eq_true rfl) dX0_told_18 (fun H locs hP hD hS => ?_)
    have hP : va_P G.1 zcl ((xA_ G xA xa_trays xa_tape x_taped x_faultKind x_faultAt xa_bad xa_refused 0 x_above x_under nA xa_marks x_markMany xa_pictures x_lead x_round xa_ways x_bestSet x_bestMany x_left xa_aside xa_last x_hasLived uA n_year) ++ (hW G uA tA uA_bo uA_st uA_se ulit umayor unight uoil uborn ustays useen) ++ (tW G tA tA_be tA_le tA_mo tA_rn tA_cn tA_bo tA_st (nI Wd) (nI R) thouses talways tnever (nI nr) (nI nc) tring tbeside tleast tmost trnames)) H := hP
    have hD : va_D A ((xA_ G xA xa_trays xa_tape x_taped x_faultKind x_faultAt xa_bad xa_refused 0 x_above x_under nA xa_marks x_markMany xa_pictures x_lead x_round xa_ways x_bestSet x_bestMany x_left xa_aside xa_last x_hasLived uA n_year) ++ (hW G uA tA uA_bo uA_st uA_se ulit umayor unight uoil uborn ustays useen) ++ (tW G tA tA_be tA_le tA_mo tA_rn tA_cn tA_bo tA_st (nI Wd) (nI R) thouses talways tnever (nI nr) (nI nc) tring tbeside tleast tmost trnames)) := hD
    refine lv_iload_n hx hb dX0_told_21 rfl (lv_at hl 1 rfl) ?_
    rcases Classical.em (what = 0) with c_15 | c_15
    · refine lv_tableIn (off := 58) (tgt := 80) hx hb dX0_told_22 (by rw [c_15]; decide) (by rw [c_15]; decide) (by rw [c_15]; rfl) (by decide) ?_
      refine lv_aload_n hx hb dX0_told_80 rfl (lv_at hl 0 rfl) ?_
      refine zr_obV ⟨hx, hb, hml, hown, hts⟩ (mt_xf_at l G xA xa_trays xa_tape x_taped x_faultKind x_faultAt xa_bad xa_refused 0 x_above x_under nA xa_marks x_markMany xa_pictures x_lead x_round xa_ways x_bestSet x_bestMany x_left xa_aside xa_last x_hasLived uA n_year tA uA_bo uA_st uA_se ulit umayor unight uoil uborn ustays useen tA_be tA_le tA_mo tA_rn tA_cn tA_bo tA_st Wd R thouses talways tnever nr nc tring tbeside tleast tmost trnames hT) (cwV 0 hts (lw_V q891 q893 qs28 q135 q894) rfl rfl rfl hd_X0_at ⟨(Nat.le_of_ble_eq_true rfl), (Nat.le_of_ble_eq_true rfl)⟩) hP hK (zE_o hE hS) 0 0 rfl rfl rfl hl.1 rfl (Nat.le_of_ble_eq_true rfl) dX0_told_81 ⟨Nat.le_refl _, Nat.le_refl _⟩ ?_
      refine va_getN (D := G.1) (ci := 6) (v := .int (nI Wd)) (C := RX6) (T := TX6) (N := 15) hx hb hts in_X6 hown hK.1 hP 6 rfl rfl 0 (Nat.le_of_ble_eq_true rfl) ((hK.2.1.1 _ (List.mem_of_getElem? (i := 4) rfl)).use rfl) (fun _ h => h) rfl dX0_told_84 ?_
      have e_ : xf_told ulit umayor unight uoil Wd R thouses talways tnever nr nc tring what = (nI Wd, 0) := by rw [xf_told, if_pos c_1, if_pos c_15]
      exact zr_mi hx hb hr hlocks hP hD hS dX0_told_87 (by rw [e_])  (by rw [e_]) trivial
    · rcases Classical.em (what = 1) with c_16 | c_16
      · refine lv_tableIn (off := 66) (tgt := 88) hx hb dX0_told_22 (by rw [c_16]; decide) (by rw [c_16]; decide) (by rw [c_16]; rfl) (by decide) ?_
        refine lv_aload_n hx hb dX0_told_88 rfl (lv_at hl 0 rfl) ?_
        refine zr_obV ⟨hx, hb, hml, hown, hts⟩ (mt_xf_at l G xA xa_trays xa_tape x_taped x_faultKind x_faultAt xa_bad xa_refused 0 x_above x_under nA xa_marks x_markMany xa_pictures x_lead x_round xa_ways x_bestSet x_bestMany x_left xa_aside xa_last x_hasLived uA n_year tA uA_bo uA_st uA_se ulit umayor unight uoil uborn ustays useen tA_be tA_le tA_mo tA_rn tA_cn tA_bo tA_st Wd R thouses talways tnever nr nc tring tbeside tleast tmost trnames hT) (cwV 0 hts (lw_V q891 q893 qs28 q135 q894) rfl rfl rfl hd_X0_at ⟨(Nat.le_of_ble_eq_true rfl), (Nat.le_of_ble_eq_true rfl)⟩) hP hK (zE_o hE hS) 0 0 rfl rfl rfl hl.1 rfl (Nat.le_of_ble_eq_true rfl) dX0_told_89 ⟨Nat.le_refl _, Nat.le_refl _⟩ ?_
        refine va_getN (D := G.1) (ci := 6) (v := .int (nI R)) (C := RX6) (T := TX6) (N := 15) hx hb hts in_X6 hown hK.1 hP 6 rfl rfl 1 (Nat.le_of_ble_eq_true rfl) ((hK.2.1.1 _ (List.mem_of_getElem? (i := 5) rfl)).use rfl) (fun _ h => h) rfl dX0_told_92 ?_
        have e_ : xf_told ulit umayor unight uoil Wd R thouses talways tnever nr nc tring what = (nI R, 0) := by rw [xf_told, if_pos c_1, if_neg c_15, if_pos c_16]
        exact zr_mi hx hb hr hlocks hP hD hS dX0_told_95 (by rw [e_])  (by rw [e_]) trivial
      · rcases Classical.em (what = 2) with c_17 | c_17
        · refine lv_tableIn (off := 74) (tgt := 96) hx hb dX0_told_22 (by rw [c_17]; decide) (by rw [c_17]; decide) (by rw [c_17]; rfl) (by decide) ?_
          refine lv_aload_n hx hb dX0_told_96 rfl (lv_at hl 0 rfl) ?_
          refine zr_obV ⟨hx, hb, hml, hown, hts⟩ (mt_xf_at l G xA xa_trays xa_tape x_taped x_faultKind x_faultAt xa_bad xa_refused 0 x_above x_under nA xa_marks x_markMany xa_pictures x_lead x_round xa_ways x_bestSet x_bestMany x_left xa_aside xa_last x_hasLived uA n_year tA uA_bo uA_st uA_se ulit umayor unight uoil uborn ustays useen tA_be tA_le tA_mo tA_rn tA_cn tA_bo tA_st Wd R thouses talways tnever nr nc tring tbeside tleast tmost trnames hT) (cwV 0 hts (lw_V q891 q893 qs28 q135 q894) rfl rfl rfl hd_X0_at ⟨(Nat.le_of_ble_eq_true rfl), (Nat.le_of_ble_eq_true rfl)⟩) hP hK (zE_o hE hS) 0 0 rfl rfl rfl hl.1 rfl (Nat.le_of_ble_eq_true rfl) dX0_told_97 ⟨Nat.le_refl _, Nat.le_refl _⟩ ?_
          refine va_getN (D := G.1) (ci := 6) (v := .int thouses) (C := RX6) (T := TX6) (N := 15) hx hb hts in_X6 hown hK.1 hP 6 rfl rfl 2 (Nat.le_of_ble_eq_true rfl) ((hK.2.1.1 _ (List.mem_of_getElem? (i := 12) rfl)).use rfl) (fun _ h => h) rfl dX0_told_100 ?_
          refine zr_puS ⟨hx, hb, hml, hown, hts⟩ (mt_xf_many l thouses) (va_cwS 1 hts (lw_S q850 q851 q135 q852) rfl rfl rfl hd_X0_many.2 ⟨(Nat.le_of_ble_eq_true rfl), (Nat.le_of_ble_eq_true rfl)⟩) rfl hl.1 rfl (Nat.le_of_ble_eq_true rfl) dX0_told_103 ⟨Nat.le_refl _, Nat.le_refl _⟩ ?_
          have e_ : xf_told ulit umayor unight uoil Wd R thouses talways tnever nr nc tring what = (nI (zpc thouses), 0) := by rw [xf_told, if_pos c_1, if_neg c_15, if_neg c_16, if_pos c_17]
          exact zr_mi hx hb hr hlocks hP hD hS dX0_told_106 (by rw [e_])  (by rw [e_]) trivial
        · rcases Classical.em (what = 3) with c_18 | c_18
          · refine lv_tableIn (off := 85) (tgt := 107) hx hb dX0_told_22 (by rw [c_18]; decide) (by rw [c_18]; decide) (by rw [c_18]; rfl) (by decide) ?_
            refine lv_aload_n hx hb dX0_told_107 rfl (lv_at hl 0 rfl) ?_
            refine zr_obV ⟨hx, hb, hml, hown, hts⟩ (mt_xf_hill l G xA xa_trays xa_tape x_taped x_faultKind x_faultAt xa_bad xa_refused 0 x_above x_under nA xa_marks x_markMany xa_pictures x_lead x_round xa_ways x_bestSet x_bestMany x_left xa_aside xa_last x_hasLived uA n_year tA uA_bo uA_st uA_se ulit umayor unight uoil uborn ustays useen tA_be tA_le tA_mo tA_rn tA_cn tA_bo tA_st Wd R thouses talways tnever nr nc tring tbeside tleast tmost trnames hT) (cwV 0 hts (lw_V q841 q843 qs26 q135 q844) rfl rfl rfl hd_X0_hill ⟨(Nat.le_of_ble_eq_true rfl), (Nat.le_of_ble_eq_true rfl)⟩) hP hK (zE_o hE hS) 0 0 rfl rfl rfl hl.1 rfl (Nat.le_of_ble_eq_true rfl) dX0_told_108 ⟨Nat.le_refl _, Nat.le_refl _⟩ ?_
            refine va_getN (D := G.1) (ci := 5) (v := .int ulit) (C := RX5) (T := TX5) (N := 8) hx hb hts in_X5 hown hK.1 hP 2 rfl rfl 4 (Nat.le_of_ble_eq_true rfl) ((hK.2.1.1 _ (List.mem_of_getElem? (i := 14) rfl)).use rfl) (fun _ h => h) rfl dX0_told_111 ?_
            refine zr_puS ⟨hx, hb, hml, hown, hts⟩ (mt_xf_many l ulit) (va_cwS 1 hts (lw_S q850 q851 q135 q852) rfl rfl rfl hd_X0_many.2 ⟨(Nat.le_of_ble_eq_true rfl), (Nat.le_of_ble_eq_true rfl)⟩) rfl hl.1 rfl (Nat.le_of_ble_eq_true rfl) dX0_told_114 ⟨Nat.le_refl _, Nat.le_refl _⟩ ?_
            have e_ : xf_told ulit umayor unight uoil Wd R thouses talways tnever nr nc tring what = (nI (zpc ulit), 0) := by rw [xf_told, if_pos c_1, if_neg c_15, if_neg c_16, if_neg c_17, if_pos c_18]
            exact zr_mi hx hb hr hlocks hP hD hS dX0_told_117 (by rw [e_])  (by rw [e_]) trivial
          · rcases Classical.em (what = 4) with c_19 | c_19
            · refine lv_tableIn (off := 96) (tgt := 118) hx hb dX0_told_22 (by rw [c_19]; decide) (by rw [c_19]; decide) (by rw [c_19]; rfl) (by decide) ?_
              refine lv_aload_n hx hb dX0_told_118 rfl (lv_at hl 0 rfl) ?_
              refine zr_obV ⟨hx, hb, hml, hown, hts⟩ (mt_xf_at l G xA xa_trays xa_tape x_taped x_faultKind x_faultAt xa_bad xa_refused 0 x_above x_under nA xa_marks x_markMany xa_pictures x_lead x_round xa_ways x_bestSet x_bestMany x_left xa_aside xa_last x_hasLived uA n_year tA uA_bo uA_st uA_se ulit umayor unight uoil uborn ustays useen tA_be tA_le tA_mo tA_rn tA_cn tA_bo tA_st Wd R thouses talways tnever nr nc tring tbeside tleast tmost trnames hT) (cwV 0 hts (lw_V q891 q893 qs28 q135 q894) rfl rfl rfl hd_X0_at ⟨(Nat.le_of_ble_eq_true rfl), (Nat.le_of_ble_eq_true rfl)⟩) hP hK (zE_o hE hS) 0 0 rfl rfl rfl hl.1 rfl (Nat.le_of_ble_eq_true rfl) dX0_told_119 ⟨Nat.le_refl _, Nat.le_refl _⟩ ?_
              refine zr_obV ⟨hx, hb, hml, hown, hts⟩ (mt_tf_stuck l G tA tA_be tA_le tA_mo tA_rn tA_cn tA_bo tA_st Wd R thouses talways tnever (nI nr) (nI nc) tring tbeside tleast tmost trnames) (cwV 0 hts (lw_V q972 q973 q974 q143 q975) rfl rfl rfl hd_X6_stuck ⟨(Nat.le_of_ble_eq_true rfl), (Nat.le_of_ble_eq_true rfl)⟩) (zP_sub hP (ws' := (tW G tA tA_be tA_le tA_mo tA_rn tA_cn tA_bo tA_st (nI Wd) (nI R) thouses talways tnever (nI nr) (nI nc) tring tbeside tleast tmost trnames)) [6, 7, 8, 9, 10] rfl) hK (zE_o hE hS) 0 6 rfl rfl rfl hl.1 rfl (Nat.le_of_ble_eq_true rfl) dX0_told_122 ⟨Nat.le_refl _, Nat.le_refl _⟩ ?_
              refine zr_puS ⟨hx, hb, hml, hown, hts⟩ (mt_xf_many l (talways ||| tnever)) (va_cwS 1 hts (lw_S q850 q851 q135 q852) rfl rfl rfl hd_X0_many.2 ⟨(Nat.le_of_ble_eq_true rfl), (Nat.le_of_ble_eq_true rfl)⟩) rfl hl.1 rfl (Nat.le_of_ble_eq_true rfl) dX0_told_125 ⟨Nat.le_refl _, Nat.le_refl _⟩ ?_
              have e_ : xf_told ulit umayor unight uoil Wd R thouses talways tnever nr nc tring what = (nI (zpc (talways ||| tnever)), 0) := by rw [xf_told, if_pos c_1, if_neg c_15, if_neg c_16, if_neg c_17, if_neg c_18, if_pos c_19]
              exact zr_mi hx hb hr hlocks hP hD hS dX0_told_128 (by rw [e_])  (by rw [e_]) trivial
            · rcases Classical.em (what = 5) with c_20 | c_20
              · refine lv_tableIn (off := 107) (tgt := 129) hx hb dX0_told_22 (by rw [c_20]; decide) (by rw [c_20]; decide) (by rw [c_20]; rfl) (by decide) ?_
                refine lv_aload_n hx hb dX0_told_129 rfl (lv_at hl 0 rfl) ?_
                refine zr_obV ⟨hx, hb, hml, hown, hts⟩ (mt_xf_at l G xA xa_trays xa_tape x_taped x_faultKind x_faultAt xa_bad xa_refused 0 x_above x_under nA xa_marks x_markMany xa_pictures x_lead x_round xa_ways x_bestSet x_bestMany x_left xa_aside xa_last x_hasLived uA n_year tA uA_bo uA_st uA_se ulit umayor unight uoil uborn ustays useen tA_be tA_le tA_mo tA_rn tA_cn tA_bo tA_st Wd R thouses talways tnever nr nc tring tbeside tleast tmost trnames hT) (cwV 0 hts (lw_V q891 q893 qs28 q135 q894) rfl rfl rfl hd_X0_at ⟨(Nat.le_of_ble_eq_true rfl), (Nat.le_of_ble_eq_true rfl)⟩) hP hK (zE_o hE hS) 0 0 rfl rfl rfl hl.1 rfl (Nat.le_of_ble_eq_true rfl) dX0_told_130 ⟨Nat.le_refl _, Nat.le_refl _⟩ ?_
                refine va_getN (D := G.1) (ci := 6) (v := .int (nI nr)) (C := RX6) (T := TX6) (N := 15) hx hb hts in_X6 hown hK.1 hP 6 rfl rfl 5 (Nat.le_of_ble_eq_true rfl) ((hK.2.1.1 _ (List.mem_of_getElem? (i := 6) rfl)).use rfl) (fun _ h => h) rfl dX0_told_133 ?_
                have e_ : xf_told ulit umayor unight uoil Wd R thouses talways tnever nr nc tring what = (nI nr, 0) := by rw [xf_told, if_pos c_1, if_neg c_15, if_neg c_16, if_neg c_17, if_neg c_18, if_neg c_19, if_pos c_20]
                exact zr_mi hx hb hr hlocks hP hD hS dX0_told_136 (by rw [e_])  (by rw [e_]) trivial
              · rcases Classical.em (what = 6) with c_21 | c_21
                · refine lv_tableIn (off := 115) (tgt := 137) hx hb dX0_told_22 (by rw [c_21]; decide) (by rw [c_21]; decide) (by rw [c_21]; rfl) (by decide) ?_
                  refine lv_aload_n hx hb dX0_told_137 rfl (lv_at hl 0 rfl) ?_
                  refine zr_obV ⟨hx, hb, hml, hown, hts⟩ (mt_xf_at l G xA xa_trays xa_tape x_taped x_faultKind x_faultAt xa_bad xa_refused 0 x_above x_under nA xa_marks x_markMany xa_pictures x_lead x_round xa_ways x_bestSet x_bestMany x_left xa_aside xa_last x_hasLived uA n_year tA uA_bo uA_st uA_se ulit umayor unight uoil uborn ustays useen tA_be tA_le tA_mo tA_rn tA_cn tA_bo tA_st Wd R thouses talways tnever nr nc tring tbeside tleast tmost trnames hT) (cwV 0 hts (lw_V q891 q893 qs28 q135 q894) rfl rfl rfl hd_X0_at ⟨(Nat.le_of_ble_eq_true rfl), (Nat.le_of_ble_eq_true rfl)⟩) hP hK (zE_o hE hS) 0 0 rfl rfl rfl hl.1 rfl (Nat.le_of_ble_eq_true rfl) dX0_told_138 ⟨Nat.le_refl _, Nat.le_refl _⟩ ?_
                  refine va_getN (D := G.1) (ci := 6) (v := .int (nI nc)) (C := RX6) (T := TX6) (N := 15) hx hb hts in_X6 hown hK.1 hP 6 rfl rfl 6 (Nat.le_of_ble_eq_true rfl) ((hK.2.1.1 _ (List.mem_of_getElem? (i := 7) rfl)).use rfl) (fun _ h => h) rfl dX0_told_141 ?_
                  have e_ : xf_told ulit umayor unight uoil Wd R thouses talways tnever nr nc tring what = (nI nc, 0) := by rw [xf_told, if_pos c_1, if_neg c_15, if_neg c_16, if_neg c_17, if_neg c_18, if_neg c_19, if_neg c_20, if_pos c_21]
                  exact zr_mi hx hb hr hlocks hP hD hS dX0_told_144 (by rw [e_])  (by rw [e_]) trivial
                · rcases Classical.em (what = 7) with c_22 | c_22
                  · refine lv_tableIn (off := 123) (tgt := 145) hx hb dX0_told_22 (by rw [c_22]; decide) (by rw [c_22]; decide) (by rw [c_22]; rfl) (by decide) ?_
                    refine lv_aload_n hx hb dX0_told_145 rfl (lv_at hl 0 rfl) ?_
                    refine zr_obV ⟨hx, hb, hml, hown, hts⟩ (mt_xf_hill l G xA xa_trays xa_tape x_taped x_faultKind x_faultAt xa_bad xa_refused 0 x_above x_under nA xa_marks x_markMany xa_pictures x_lead x_round xa_ways x_bestSet x_bestMany x_left xa_aside xa_last x_hasLived uA n_year tA uA_bo uA_st uA_se ulit umayor unight uoil uborn ustays useen tA_be tA_le tA_mo tA_rn tA_cn tA_bo tA_st Wd R thouses talways tnever nr nc tring tbeside tleast tmost trnames hT) (cwV 0 hts (lw_V q841 q843 qs26 q135 q844) rfl rfl rfl hd_X0_hill ⟨(Nat.le_of_ble_eq_true rfl), (Nat.le_of_ble_eq_true rfl)⟩) hP hK (zE_o hE hS) 0 0 rfl rfl rfl hl.1 rfl (Nat.le_of_ble_eq_true rfl) dX0_told_146 ⟨Nat.le_refl _, Nat.le_refl _⟩ ?_
                    refine va_getN (D := G.1) (ci := 5) (v := .int unight) (C := RX5) (T := TX5) (N := 8) hx hb hts in_X5 hown hK.1 hP 2 rfl rfl 6 (Nat.le_of_ble_eq_true rfl) ((hK.2.1.1 _ (List.mem_of_getElem? (i := 15) rfl)).use rfl) (fun _ h => h) rfl dX0_told_149 ?_
                    have e_ : xf_told ulit umayor unight uoil Wd R thouses talways tnever nr nc tring what = (unight, 0) := by rw [xf_told, if_pos c_1, if_neg c_15, if_neg c_16, if_neg c_17, if_neg c_18, if_neg c_19, if_neg c_20, if_neg c_21, if_pos c_22]
                    exact zr_mi hx hb hr hlocks hP hD hS dX0_told_152 (by rw [e_])  (by rw [e_]) trivial
                  · rcases Classical.em (what = 8) with c_23 | c_23
                    · refine lv_tableIn (off := 131) (tgt := 153) hx hb dX0_told_22 (by rw [c_23]; decide) (by rw [c_23]; decide) (by rw [c_23]; rfl) (by decide) ?_
                      refine lv_aload_n hx hb dX0_told_153 rfl (lv_at hl 0 rfl) ?_
                      refine zr_obV ⟨hx, hb, hml, hown, hts⟩ (mt_xf_hill l G xA xa_trays xa_tape x_taped x_faultKind x_faultAt xa_bad xa_refused 0 x_above x_under nA xa_marks x_markMany xa_pictures x_lead x_round xa_ways x_bestSet x_bestMany x_left xa_aside xa_last x_hasLived uA n_year tA uA_bo uA_st uA_se ulit umayor unight uoil uborn ustays useen tA_be tA_le tA_mo tA_rn tA_cn tA_bo tA_st Wd R thouses talways tnever nr nc tring tbeside tleast tmost trnames hT) (cwV 0 hts (lw_V q841 q843 qs26 q135 q844) rfl rfl rfl hd_X0_hill ⟨(Nat.le_of_ble_eq_true rfl), (Nat.le_of_ble_eq_true rfl)⟩) hP hK (zE_o hE hS) 0 0 rfl rfl rfl hl.1 rfl (Nat.le_of_ble_eq_true rfl) dX0_told_154 ⟨Nat.le_refl _, Nat.le_refl _⟩ ?_
                      refine va_getN (D := G.1) (ci := 5) (v := .int uoil) (C := RX5) (T := TX5) (N := 8) hx hb hts in_X5 hown hK.1 hP 2 rfl rfl 7 (Nat.le_of_ble_eq_true rfl) ((hK.2.1.1 _ (List.mem_of_getElem? (i := 16) rfl)).use rfl) (fun _ h => h) rfl dX0_told_157 ?_
                      have e_ : xf_told ulit umayor unight uoil Wd R thouses talways tnever nr nc tring what = (uoil, 0) := by rw [xf_told, if_pos c_1, if_neg c_15, if_neg c_16, if_neg c_17, if_neg c_18, if_neg c_19, if_neg c_20, if_neg c_21, if_neg c_22, if_pos c_23]
                      exact zr_mi hx hb hr hlocks hP hD hS dX0_told_160 (by rw [e_])  (by rw [e_]) trivial
                    · rcases Classical.em (what = 9) with c_24 | c_24
                      · refine lv_tableIn (off := 139) (tgt := 161) hx hb dX0_told_22 (by rw [c_24]; decide) (by rw [c_24]; decide) (by rw [c_24]; rfl) (by decide) ?_
                        refine lv_aload_n hx hb dX0_told_161 rfl (lv_at hl 0 rfl) ?_
                        refine zr_obV ⟨hx, hb, hml, hown, hts⟩ (mt_xf_at l G xA xa_trays xa_tape x_taped x_faultKind x_faultAt xa_bad xa_refused 0 x_above x_under nA xa_marks x_markMany xa_pictures x_lead x_round xa_ways x_bestSet x_bestMany x_left xa_aside xa_last x_hasLived uA n_year tA uA_bo uA_st uA_se ulit umayor unight uoil uborn ustays useen tA_be tA_le tA_mo tA_rn tA_cn tA_bo tA_st Wd R thouses talways tnever nr nc tring tbeside tleast tmost trnames hT) (cwV 0 hts (lw_V q891 q893 qs28 q135 q894) rfl rfl rfl hd_X0_at ⟨(Nat.le_of_ble_eq_true rfl), (Nat.le_of_ble_eq_true rfl)⟩) hP hK (zE_o hE hS) 0 0 rfl rfl rfl hl.1 rfl (Nat.le_of_ble_eq_true rfl) dX0_told_162 ⟨Nat.le_refl _, Nat.le_refl _⟩ ?_
                        refine zr_obV ⟨hx, hb, hml, hown, hts⟩ (mt_tf_joins l G tA tA_be tA_le tA_mo tA_rn tA_cn tA_bo tA_st Wd R thouses talways tnever (nI nr) (nI nc) tring tbeside tleast tmost trnames (by first | assumption | exact hW5 | omega)) (cwV 0 hts (lw_V q976 q838 q839 q143 q840) rfl rfl rfl hd_X6_joins ⟨(Nat.le_of_ble_eq_true rfl), (Nat.le_of_ble_eq_true rfl)⟩) (zP_sub hP (ws' := (tW G tA tA_be tA_le tA_mo tA_rn tA_cn tA_bo tA_st (nI Wd) (nI R) thouses talways tnever (nI nr) (nI nc) tring tbeside tleast tmost trnames)) [6, 7, 8, 9, 10] rfl) hK (zE_o hE hS) 0 6 rfl rfl rfl hl.1 rfl (Nat.le_of_ble_eq_true rfl) dX0_told_165 ⟨Nat.le_refl _, Nat.le_refl _⟩ ?_
                        refine zr_eqB (tf_joins Wd tring) (tgt := 175) hx hb dX0_told_168 (by decide) (fun c_25 => ?_) (fun c_25 => ?_)
                        · refine lv_iconst (v := 0) hx hb dX0_told_175 (by decide) ?_
                          have e_ : xf_told ulit umayor unight uoil Wd R thouses talways tnever nr nc tring what = (0, 0) := by rw [xf_told, if_pos c_1, if_neg c_15, if_neg c_16, if_neg c_17, if_neg c_18, if_neg c_19, if_neg c_20, if_neg c_21, if_neg c_22, if_neg c_23, if_pos c_24, if_neg c_25]
                          exact zr_mi hx hb hr hlocks hP hD hS dX0_told_176 (by rw [e_])  (by rw [e_]) trivial
                        · refine lv_iconst (v := 1) hx hb dX0_told_171 (by decide) ?_
                          refine lv_goto (tgt := 176) hx hb dX0_told_172 (by decide) ?_
                          have e_ : xf_told ulit umayor unight uoil Wd R thouses talways tnever nr nc tring what = (1, 0) := by rw [xf_told, if_pos c_1, if_neg c_15, if_neg c_16, if_neg c_17, if_neg c_18, if_neg c_19, if_neg c_20, if_neg c_21, if_neg c_22, if_neg c_23, if_pos c_24, if_pos c_25]
                          exact zr_mi hx hb hr hlocks hP hD hS dX0_told_176 (by rw [e_])  (by rw [e_]) trivial
                      · rcases Classical.em (what = 10) with c_26 | c_26
                        · refine lv_tableIn (off := 155) (tgt := 177) hx hb dX0_told_22 (by rw [c_26]; decide) (by rw [c_26]; decide) (by rw [c_26]; rfl) (by decide) ?_
                          refine lv_aload_n hx hb dX0_told_177 rfl (lv_at hl 0 rfl) ?_
                          refine lv_aload_n hx hb dX0_told_178 rfl (lv_at hl 0 rfl) ?_
                          refine zr_obV ⟨hx, hb, hml, hown, hts⟩ (mt_xf_hill l G xA xa_trays xa_tape x_taped x_faultKind x_faultAt xa_bad xa_refused 0 x_above x_under nA xa_marks x_markMany xa_pictures x_lead x_round xa_ways x_bestSet x_bestMany x_left xa_aside xa_last x_hasLived uA n_year tA uA_bo uA_st uA_se ulit umayor unight uoil uborn ustays useen tA_be tA_le tA_mo tA_rn tA_cn tA_bo tA_st Wd R thouses talways tnever nr nc tring tbeside tleast tmost trnames hT) (cwV 0 hts (lw_V q841 q843 qs26 q135 q844) rfl rfl rfl hd_X0_hill ⟨(Nat.le_of_ble_eq_true rfl), (Nat.le_of_ble_eq_true rfl)⟩) hP hK (zE_o hE hS) 0 0 rfl rfl rfl hl.1 rfl (Nat.le_of_ble_eq_true rfl) dX0_told_179 ⟨Nat.le_refl _, Nat.le_refl _⟩ ?_
                          refine va_getN (D := G.1) (ci := 5) (v := .int umayor) (C := RX5) (T := TX5) (N := 8) hx hb hts in_X5 hown hK.1 hP 2 rfl rfl 5 (Nat.le_of_ble_eq_true rfl) ((hK.2.1.1 _ (List.mem_of_getElem? (i := 17) rfl)).use rfl) (fun _ h => h) rfl dX0_told_182 ?_
                          refine zr_muV (F := xf_answer umayor) (ff := fun t_27 => True) (rr := fun t_27 => some (.int t_27.1)) (w1 := fun t_27 => ((xA_ G xA xa_trays xa_tape x_taped x_faultKind x_faultAt xa_bad xa_refused t_27.2 x_above x_under nA xa_marks x_markMany xa_pictures x_lead x_round xa_ways x_bestSet x_bestMany x_left xa_aside xa_last x_hasLived uA n_year) ++ (hW G uA tA uA_bo uA_st uA_se ulit umayor unight uoil uborn ustays useen) ++ (tW G tA tA_be tA_le tA_mo tA_rn tA_cn tA_bo tA_st (nI Wd) (nI R) thouses talways tnever (nI nr) (nI nc) tring tbeside tleast tmost trnames))) ⟨hx, hb, hml, hown, hts⟩ (mt_xf_answer l G xA xa_trays xa_tape x_taped x_faultKind x_faultAt xa_bad xa_refused 0 x_above x_under nA xa_marks x_markMany xa_pictures x_lead x_round xa_ways x_bestSet x_bestMany x_left xa_aside xa_last x_hasLived uA n_year tA uA_bo uA_st uA_se ulit umayor unight uoil uborn ustays useen tA_be tA_le tA_mo tA_rn tA_cn tA_bo tA_st Wd R thouses talways tnever nr nc tring tbeside tleast tmost trnames umayor hT H.size) (cwV 1 hts (lw_V q977 q979 qs34 q135 q980) rfl rfl rfl hd_X0_answer ⟨(Nat.le_of_ble_eq_true rfl), (Nat.le_of_ble_eq_true rfl)⟩) hP hD hS hA hK hE 0 0 rfl rfl rfl hl.1 rfl (Nat.le_of_ble_eq_true rfl) dX0_told_185 ⟨Nat.le_refl _, Nat.le_refl _⟩ (fun t_27 ht_27 hft_27 H locs hP hD hS _ => ?_)
                          refine W.eq (g2 := F0 m 188 ls [.int t_27.1]) rfl ?_
                          have e_ : xf_told ulit umayor unight uoil Wd R thouses talways tnever nr nc tring what = (t_27.1, t_27.2) := by rw [xf_told, if_pos c_1, if_neg c_15, if_neg c_16, if_neg c_17, if_neg c_18, if_neg c_19, if_neg c_20, if_neg c_21, if_neg c_22, if_neg c_23, if_neg c_24, if_pos c_26, zlet_eq ht_27]
                          exact zr_mi hx hb hr hlocks hP hD hS dX0_told_188 (by rw [e_])  (by rw [e_]) trivial
                        · refine lv_tableOut (tgt := 189) hx hb dX0_told_22 (z_out what (lo := 0) (hi := 10) (fun z h1 h2 => have h3 : z = 0 ∨ z = 1 ∨ z = 2 ∨ z = 3 ∨ z = 4 ∨ z = 5 ∨ z = 6 ∨ z = 7 ∨ z = 8 ∨ z = 9 ∨ z = 10 := (by omega); (h3.elim (fun h3 => z_outq c_15 (by decide) h3) (fun h3 => (h3.elim (fun h3 => z_outq c_16 (by decide) h3) (fun h3 => (h3.elim (fun h3 => z_outq c_17 (by decide) h3) (fun h3 => (h3.elim (fun h3 => z_outq c_18 (by decide) h3) (fun h3 => (h3.elim (fun h3 => z_outq c_19 (by decide) h3) (fun h3 => (h3.elim (fun h3 => z_outq c_20 (by decide) h3) (fun h3 => (h3.elim (fun h3 => z_outq c_21 (by decide) h3) (fun h3 => (h3.elim (fun h3 => z_outq c_22 (by decide) h3) (fun h3 => (h3.elim (fun h3 => z_outq c_23 (by decide) h3) (fun h3 => (h3.elim (fun h3 => z_outq c_24 (by decide) h3) (fun h3 => (z_outq c_26 (by decide) h3))))))))))))))))))))))) (by decide) ?_
                          refine lv_iconst (v := (-1)) hx hb dX0_told_189 (by decide) ?_
                          have e_ : xf_told ulit umayor unight uoil Wd R thouses talways tnever nr nc tring what = ((-1), 0) := by rw [xf_told, if_pos c_1, if_neg c_15, if_neg c_16, if_neg c_17, if_neg c_18, if_neg c_19, if_neg c_20, if_neg c_21, if_neg c_22, if_neg c_23, if_neg c_24, if_neg c_26]
                          exact zr_mi hx hb hr hlocks hP hD hS dX0_told_190 (by rw [e_])  (by rw [e_]) trivial
def xf_picture (ulit : Int32) : Int64 × Int32 :=
  (ulit.toInt64, 0)
theorem hd_X0_picture : yX0_picture.cls = RX0 ∧ yX0_picture.cls ≠ "java/lang/invoke/MethodHandle" ∧ yX0_picture.cls ≠ "java/lang/invoke/VarHandle" ∧ (parseMethodDescriptor yX0_picture.desc).map (fun d => d.parameters.length) = some 0 := by decide +kernel
set_option maxHeartbeats 4000000 in
set_option maxRecDepth 100000 in
theorem mt_xf_picture (l : Launch) (G : zG) (xA : Nat) (xa_trays : Nat) (xa_tape : Nat) (x_taped : Int32) (x_faultKind : Int32) (x_faultAt : Int32) (xa_bad : Nat) (xa_refused : Nat) (x_status : Int32) (x_above : Int64) (x_under : Int64) (nA : Nat) (xa_marks : Nat) (x_markMany : Int32) (xa_pictures : Nat) (x_lead : Int32) (x_round : Int32) (xa_ways : Nat) (x_bestSet : Int32) (x_bestMany : Int32) (x_left : Int32) (xa_aside : Nat) (xa_last : Nat) (x_hasLived : Bool) (uA : Nat) (n_year : Option Nat) (tA : Nat) (uA_bo : Nat) (uA_st : Nat) (uA_se : Nat) (ulit : Int32) (umayor : Int32) (unight : Int32) (uoil : Int32) (uborn : Nat → Int32) (ustays : Nat → Int32) (useen : Nat → Int32) (tA_be : Nat) (tA_le : Nat) (tA_mo : Nat) (tA_rn : Nat) (tA_cn : Nat) (tA_bo : Nat) (tA_st : Nat) (Wd : Nat) (R : Nat) (thouses : Int32) (talways : Int32) (tnever : Int32) (nr : Nat) (nc : Nat) (tring : Bool) (tbeside : Nat → Int32) (tleast : Nat → Int32) (tmost : Nat → Int32) (trnames : Nat → Int64) (hT : tOK Wd R nr nc) (sz : Nat) : Met l yX0_picture (ws_ yX0_picture cX0_picture 1 (some .long)) (zR 2 0 0) (zPm G sz [.ref xA] ((xA_ G xA xa_trays xa_tape x_taped x_faultKind x_faultAt xa_bad xa_refused x_status x_above x_under nA xa_marks x_markMany xa_pictures x_lead x_round xa_ways x_bestSet x_bestMany x_left xa_aside xa_last x_hasLived uA n_year) ++ (hW G uA tA uA_bo uA_st uA_se ulit umayor unight uoil uborn ustays useen) ++ (tW G tA tA_be tA_le tA_mo tA_rn tA_cn tA_bo tA_st (nI Wd) (nI R) thouses talways tnever (nI nr) (nI nc) tring tbeside tleast tmost trnames))) (zQm G (True) (some (.long ((xf_picture ulit).1))) ((xA_ G xA xa_trays xa_tape x_taped x_faultKind x_faultAt xa_bad xa_refused ((xf_picture ulit).2) x_above x_under nA xa_marks x_markMany xa_pictures x_lead x_round xa_ways x_bestSet x_bestMany x_left xa_aside xa_last x_hasLived uA n_year) ++ (hW G uA tA uA_bo uA_st uA_se ulit umayor unight uoil uborn ustays useen) ++ (tW G tA tA_be tA_le tA_mo tA_rn tA_cn tA_bo tA_st (nI Wd) (nI R) thouses talways tnever (nI nr) (nI nc) tring tbeside tleast tmost trnames)) (va_A ((xA_ G xA xa_trays xa_tape x_taped x_faultKind x_faultAt xa_bad xa_refused x_status x_above x_under nA xa_marks x_markMany xa_pictures x_lead x_round xa_ways x_bestSet x_bestMany x_left xa_aside xa_last x_hasLived uA n_year) ++ (hW G uA tA uA_bo uA_st uA_se ulit umayor unight uoil uborn ustays useen) ++ (tW G tA tA_be tA_le tA_mo tA_rn tA_cn tA_bo tA_st (nI Wd) (nI R) thouses talways tnever (nI nr) (nI nc) tring tbeside tleast tmost trnames)) sz)) 0 0 (va_A ((xA_ G xA xa_trays xa_tape x_taped x_faultKind x_faultAt xa_bad xa_refused x_status x_above x_under nA xa_marks x_markMany xa_pictures x_lead x_round xa_ways x_bestSet x_bestMany x_left xa_aside xa_last x_hasLived uA n_year) ++ (hW G uA tA uA_bo uA_st uA_se ulit umayor unight uoil uborn ustays useen) ++ (tW G tA tA_be tA_le tA_mo tA_rn tA_cn tA_bo tA_st (nI Wd) (nI R) thouses talways tnever (nI nr) (nI nc) tring tbeside tleast tmost trnames)) sz) := by
  refine zr_entM (by decide) (Nat.le_of_ble_eq_true rfl) ?_
  intro p e s m below meth c ⟨hx, hb, hr, hml, hown, hts, hlocks, hnm⟩ ls hl hP hK A hE hA hD hS
  have hown : s.vm.findClass RX0 = some m.cls := hown
  have hl : lv_has ls 1 [(0, .ref xA)] := hl
  obtain ⟨H, hH⟩ : ∃ H, H = s.heap := ⟨_, rfl⟩
  obtain ⟨locs, hlo⟩ : ∃ L : List Loc, L = [] := ⟨_, rfl⟩
  rw [← hH] at hP
  have hS : va_S A s.heap H locs := by rw [hH, hlo]; exact va_S.rf
  have hgo : W p l e (zR 2 0 0) s m ([.ref xA] : List Value).toArray below meth c H locs 0 0 (MQ below (zQm G (True) (some (.long ((xf_picture ulit).1))) ((xA_ G xA xa_trays xa_tape x_taped x_faultKind x_faultAt xa_bad xa_refused ((xf_picture ulit).2) x_above x_under nA xa_marks x_markMany xa_pictures x_lead x_round xa_ways x_bestSet x_bestMany x_left xa_aside xa_last x_hasLived uA n_year) ++ (hW G uA tA uA_bo uA_st uA_se ulit umayor unight uoil uborn ustays useen) ++ (tW G tA tA_be tA_le tA_mo tA_rn tA_cn tA_bo tA_st (nI Wd) (nI R) thouses talways tnever (nI nr) (nI nc) tring tbeside tleast tmost trnames)) A) ([.ref xA] : List Value).toArray s 0 0 A) (F0 m 0 ls []) := ?_
  · rw [hH, hlo] at hgo; exact hgo
  clear hH hlo
  have hTT := hT
  obtain ⟨hW0, hW5, hR0, hR6, hn4, hc6, hWR⟩ := hTT
  refine lv_aload_n hx hb dX0_picture_0 rfl (lv_at hl 0 rfl) ?_
  refine lv_iconst (v := 0) hx hb dX0_picture_1 (by decide) ?_
  refine va_put (D := G.1) (ci := 0) (v := .int 0) (ty := .int) (C := RX0) (T := TX0) (N := 23) hx hb hts in_X0 tyX0 tyX0_ok nmX0 hown hK.1 hP hD hS 0 rfl rfl 7 (Nat.le_of_ble_eq_true rfl) (hts _ q432) (fun _ h => h) rfl (tyX0_ok 7 (Nat.le_of_ble_eq_true rfl)) rfl rfl (Nat.le_of_ble_eq_true rfl) dX0_picture_2 (fun H locs hP hD hS => ?_)
  have hP : va_P G.1 zcl ((xA_ G xA xa_trays xa_tape x_taped x_faultKind x_faultAt xa_bad xa_refused 0 x_above x_under nA xa_marks x_markMany xa_pictures x_lead x_round xa_ways x_bestSet x_bestMany x_left xa_aside xa_last x_hasLived uA n_year) ++ (hW G uA tA uA_bo uA_st uA_se ulit umayor unight uoil uborn ustays useen) ++ (tW G tA tA_be tA_le tA_mo tA_rn tA_cn tA_bo tA_st (nI Wd) (nI R) thouses talways tnever (nI nr) (nI nc) tring tbeside tleast tmost trnames)) H := hP
  have hD : va_D A ((xA_ G xA xa_trays xa_tape x_taped x_faultKind x_faultAt xa_bad xa_refused 0 x_above x_under nA xa_marks x_markMany xa_pictures x_lead x_round xa_ways x_bestSet x_bestMany x_left xa_aside xa_last x_hasLived uA n_year) ++ (hW G uA tA uA_bo uA_st uA_se ulit umayor unight uoil uborn ustays useen) ++ (tW G tA tA_be tA_le tA_mo tA_rn tA_cn tA_bo tA_st (nI Wd) (nI R) thouses talways tnever (nI nr) (nI nc) tring tbeside tleast tmost trnames)) := hD
  refine lv_aload_n hx hb dX0_picture_5 rfl (lv_at hl 0 rfl) ?_
  refine zr_obV ⟨hx, hb, hml, hown, hts⟩ (mt_xf_hill l G xA xa_trays xa_tape x_taped x_faultKind x_faultAt xa_bad xa_refused 0 x_above x_under nA xa_marks x_markMany xa_pictures x_lead x_round xa_ways x_bestSet x_bestMany x_left xa_aside xa_last x_hasLived uA n_year tA uA_bo uA_st uA_se ulit umayor unight uoil uborn ustays useen tA_be tA_le tA_mo tA_rn tA_cn tA_bo tA_st Wd R thouses talways tnever nr nc tring tbeside tleast tmost trnames hT) (cwV 0 hts (lw_V q841 q843 qs26 q135 q844) rfl rfl rfl hd_X0_hill ⟨(Nat.le_of_ble_eq_true rfl), (Nat.le_of_ble_eq_true rfl)⟩) hP hK (zE_o hE hS) 0 0 rfl rfl rfl hl.1 rfl (Nat.le_of_ble_eq_true rfl) dX0_picture_6 ⟨Nat.le_refl _, Nat.le_refl _⟩ ?_
  refine va_getN (D := G.1) (ci := 5) (v := .int ulit) (C := RX5) (T := TX5) (N := 8) hx hb hts in_X5 hown hK.1 hP 2 rfl rfl 4 (Nat.le_of_ble_eq_true rfl) ((hK.2.1.1 _ (List.mem_of_getElem? (i := 14) rfl)).use rfl) (fun _ h => h) rfl dX0_picture_9 ?_
  refine lv_i2l hx hb dX0_picture_12 rfl ?_
  have e_ : xf_picture ulit = (ulit.toInt64, 0) := by rw [xf_picture]
  exact zr_ml hx hb hr hlocks hP hD hS dX0_picture_13 (by rw [e_])  (by rw [e_]) trivial
