theorem z_outq {x c : Int32} {z v : Int} (h : ¬ x = c) (e : c.toInt = v) (q : z = v) : ¬ x.toInt = z := fun r => h (Int32.toInt_inj.mp ((r.trans q).trans e.symm))
def tOK (Wd R nr nc : Nat) : Prop := 1 ≤ Wd ∧ Wd ≤ 5 ∧ 1 ≤ R ∧ R ≤ 6 ∧ nr ≤ 4 ∧ nc ≤ 6 ∧ Wd * R ≤ 30
def tW (G : zG) (tA : Nat) (tA_be : Nat) (tA_le : Nat) (tA_mo : Nat) (tA_rn : Nat) (tA_cn : Nat) (tA_bo : Nat) (tA_st : Nat) (twide : Int32) (trows : Int32) (thouses : Int32) (talways : Int32) (tnever : Int32) (trules : Int32) (tcitizens : Int32) (tring : Bool) (tbeside : Nat → Int32) (tleast : Nat → Int32) (tmost : Nat → Int32) (trnames : Nat → Int64) : va_W := [(tA, .inr (6, [.int twide, .int trows, .int thouses, .int talways, .int tnever, .int trules, .int tcitizens, .int (zb tring), .ref tA_be, .ref tA_le, .ref tA_mo, .ref tA_rn, .ref tA_cn, .ref tA_bo, .ref tA_st])), (tA_be, .inl (G.2 0, 30, .inl tbeside)), (tA_le, .inl (G.2 0, 6, .inl tleast)), (tA_mo, .inl (G.2 0, 6, .inl tmost)), (tA_rn, .inl (G.2 1, 4, .inr (.inl trnames)))]
def hW (G : zG) (uA : Nat) (tA : Nat) (uA_bo : Nat) (uA_st : Nat) (uA_se : Nat) (ulit : Int32) (umayor : Int32) (unight : Int32) (uoil : Int32) (uborn : Nat → Int32) (ustays : Nat → Int32) (useen : Nat → Int32) : va_W := [(uA, .inr (5, [.ref tA, .ref uA_bo, .ref uA_st, .ref uA_se, .int ulit, .int umayor, .int unight, .int uoil])), (uA_bo, .inl (G.2 0, 4, .inl uborn)), (uA_st, .inl (G.2 0, 4, .inl ustays)), (uA_se, .inl (G.2 0, 10, .inl useen))]
theorem hd_X6_cells : yX6_cells.cls = RX6 ∧ yX6_cells.cls ≠ "java/lang/invoke/MethodHandle" ∧ yX6_cells.cls ≠ "java/lang/invoke/VarHandle" ∧ (parseMethodDescriptor yX6_cells.desc).map (fun d => d.parameters.length) = some 0 := by decide +kernel
set_option maxHeartbeats 4000000 in
set_option maxRecDepth 100000 in
theorem mt_tf_cells (l : Launch) (G : zG) (tA : Nat) (tA_be : Nat) (tA_le : Nat) (tA_mo : Nat) (tA_rn : Nat) (tA_cn : Nat) (tA_bo : Nat) (tA_st : Nat) (Wd : Nat) (R : Nat) (thouses : Int32) (talways : Int32) (tnever : Int32) (trules : Int32) (tcitizens : Int32) (tring : Bool) (tbeside : Nat → Int32) (tleast : Nat → Int32) (tmost : Nat → Int32) (trnames : Nat → Int64) : Met l yX6_cells (ws_ yX6_cells cX6_cells 1 (some .int)) (zR 1 0 0) (zPo G [.ref tA] (tW G tA tA_be tA_le tA_mo tA_rn tA_cn tA_bo tA_st (nI Wd) (nI R) thouses talways tnever trules tcitizens tring tbeside tleast tmost trnames)) (k2_QcV (.int (nI (Wd * R)))) 0 0 (fun _ => False) := by
  refine zr_entO (by decide) (Nat.le_of_ble_eq_true rfl) ?_
  intro p e s m below meth c ⟨hx, hb, hr, hml, hown, hts, hlocks, hnm⟩ ls hl hP hK hE
  have hown : s.vm.findClass RX6 = some m.cls := hown
  have hl : lv_has ls 1 [(0, .ref tA)] := hl
  refine lv_aload_n hx hb dX6_cells_0 rfl (lv_at hl 0 rfl) ?_
  refine va_get (D := G.1) (ci := 6) (v := .int (nI Wd)) (C := RX6) (T := TX6) (N := 15) hx hb hts in_X6 hown hK.1 hP 0 rfl rfl 0 (Nat.le_of_ble_eq_true rfl) (hts _ q291) (fun _ h => h) rfl dX6_cells_1 ?_
  refine lv_aload_n hx hb dX6_cells_4 rfl (lv_at hl 0 rfl) ?_
  refine va_get (D := G.1) (ci := 6) (v := .int (nI R)) (C := RX6) (T := TX6) (N := 15) hx hb hts in_X6 hown hK.1 hP 0 rfl rfl 1 (Nat.le_of_ble_eq_true rfl) (hts _ q295) (fun _ h => h) rfl dX6_cells_5 ?_
  refine zr_imulN Wd R hx hb dX6_cells_8 ?_
  exact zr_oi hx hb hr hlocks dX6_cells_9 rfl
theorem hd_X6_cell : yX6_cell.cls = RX6 ∧ yX6_cell.cls ≠ "java/lang/invoke/MethodHandle" ∧ yX6_cell.cls ≠ "java/lang/invoke/VarHandle" ∧ (parseMethodDescriptor yX6_cell.desc).map (fun d => d.parameters.length) = some 2 := by decide +kernel
set_option maxHeartbeats 4000000 in
set_option maxRecDepth 100000 in
theorem mt_tf_cell (l : Launch) (G : zG) (tA : Nat) (tA_be : Nat) (tA_le : Nat) (tA_mo : Nat) (tA_rn : Nat) (tA_cn : Nat) (tA_bo : Nat) (tA_st : Nat) (Wd : Nat) (R : Nat) (thouses : Int32) (talways : Int32) (tnever : Int32) (trules : Int32) (tcitizens : Int32) (tring : Bool) (tbeside : Nat → Int32) (tleast : Nat → Int32) (tmost : Nat → Int32) (trnames : Nat → Int64) (x : Int32) (y : Int32) : Met l yX6_cell (ws_ yX6_cell cX6_cell 3 (some .int)) (zR 1 0 0) (zPo G [.ref tA, .int x, .int y] (tW G tA tA_be tA_le tA_mo tA_rn tA_cn tA_bo tA_st (nI Wd) (nI R) thouses talways tnever trules tcitizens tring tbeside tleast tmost trnames)) (k2_QcV (.int (nI Wd * y + x))) 0 0 (fun _ => False) := by
  refine zr_entO (by decide) (Nat.le_of_ble_eq_true rfl) ?_
  intro p e s m below meth c ⟨hx, hb, hr, hml, hown, hts, hlocks, hnm⟩ ls hl hP hK hE
  have hown : s.vm.findClass RX6 = some m.cls := hown
  have hl : lv_has ls 3 [(0, .ref tA), (1, .int x), (2, .int y)] := hl
  refine lv_aload_n hx hb dX6_cell_0 rfl (lv_at hl 0 rfl) ?_
  refine va_get (D := G.1) (ci := 6) (v := .int (nI Wd)) (C := RX6) (T := TX6) (N := 15) hx hb hts in_X6 hown hK.1 hP 0 rfl rfl 0 (Nat.le_of_ble_eq_true rfl) (hts _ q291) (fun _ h => h) rfl dX6_cell_1 ?_
  refine lv_iload_n hx hb dX6_cell_4 rfl (lv_at hl 2 rfl) ?_
  refine lv_imul hx hb dX6_cell_5 ?_
  refine lv_iload_n hx hb dX6_cell_6 rfl (lv_at hl 1 rfl) ?_
  refine lv_iadd hx hb dX6_cell_7 ?_
  exact zr_oi hx hb hr hlocks dX6_cell_8 rfl
theorem hd_X6_stuck : yX6_stuck.cls = RX6 ∧ yX6_stuck.cls ≠ "java/lang/invoke/MethodHandle" ∧ yX6_stuck.cls ≠ "java/lang/invoke/VarHandle" ∧ (parseMethodDescriptor yX6_stuck.desc).map (fun d => d.parameters.length) = some 0 := by decide +kernel
set_option maxHeartbeats 4000000 in
set_option maxRecDepth 100000 in
theorem mt_tf_stuck (l : Launch) (G : zG) (tA : Nat) (tA_be : Nat) (tA_le : Nat) (tA_mo : Nat) (tA_rn : Nat) (tA_cn : Nat) (tA_bo : Nat) (tA_st : Nat) (Wd : Nat) (R : Nat) (thouses : Int32) (talways : Int32) (tnever : Int32) (trules : Int32) (tcitizens : Int32) (tring : Bool) (tbeside : Nat → Int32) (tleast : Nat → Int32) (tmost : Nat → Int32) (trnames : Nat → Int64) : Met l yX6_stuck (ws_ yX6_stuck cX6_stuck 1 (some .int)) (zR 1 0 0) (zPo G [.ref tA] (tW G tA tA_be tA_le tA_mo tA_rn tA_cn tA_bo tA_st (nI Wd) (nI R) thouses talways tnever trules tcitizens tring tbeside tleast tmost trnames)) (k2_QcV (.int (talways ||| tnever))) 0 0 (fun _ => False) := by
  refine zr_entO (by decide) (Nat.le_of_ble_eq_true rfl) ?_
  intro p e s m below meth c ⟨hx, hb, hr, hml, hown, hts, hlocks, hnm⟩ ls hl hP hK hE
  have hown : s.vm.findClass RX6 = some m.cls := hown
  have hl : lv_has ls 1 [(0, .ref tA)] := hl
  refine lv_aload_n hx hb dX6_stuck_0 rfl (lv_at hl 0 rfl) ?_
  refine va_get (D := G.1) (ci := 6) (v := .int talways) (C := RX6) (T := TX6) (N := 15) hx hb hts in_X6 hown hK.1 hP 0 rfl rfl 3 (Nat.le_of_ble_eq_true rfl) (hts _ q302) (fun _ h => h) rfl dX6_stuck_1 ?_
  refine lv_aload_n hx hb dX6_stuck_4 rfl (lv_at hl 0 rfl) ?_
  refine va_get (D := G.1) (ci := 6) (v := .int tnever) (C := RX6) (T := TX6) (N := 15) hx hb hts in_X6 hown hK.1 hP 0 rfl rfl 4 (Nat.le_of_ble_eq_true rfl) (hts _ q306) (fun _ h => h) rfl dX6_stuck_5 ?_
  refine lv_ior hx hb dX6_stuck_8 ?_
  exact zr_oi hx hb hr hlocks dX6_stuck_9 rfl
theorem hd_X6_free : yX6_free.cls = RX6 ∧ yX6_free.cls ≠ "java/lang/invoke/MethodHandle" ∧ yX6_free.cls ≠ "java/lang/invoke/VarHandle" ∧ (parseMethodDescriptor yX6_free.desc).map (fun d => d.parameters.length) = some 0 := by decide +kernel
set_option maxHeartbeats 4000000 in
set_option maxRecDepth 100000 in
theorem mt_tf_free (l : Launch) (G : zG) (tA : Nat) (tA_be : Nat) (tA_le : Nat) (tA_mo : Nat) (tA_rn : Nat) (tA_cn : Nat) (tA_bo : Nat) (tA_st : Nat) (Wd : Nat) (R : Nat) (thouses : Int32) (talways : Int32) (tnever : Int32) (trules : Int32) (tcitizens : Int32) (tring : Bool) (tbeside : Nat → Int32) (tleast : Nat → Int32) (tmost : Nat → Int32) (trnames : Nat → Int64) : Met l yX6_free (ws_ yX6_free cX6_free 1 (some .int)) (zR 2 0 0) (zPo G [.ref tA] (tW G tA tA_be tA_le tA_mo tA_rn tA_cn tA_bo tA_st (nI Wd) (nI R) thouses talways tnever trules tcitizens tring tbeside tleast tmost trnames)) (k2_QcV (.int (thouses &&& ((talways ||| tnever) ^^^ (-1))))) 0 0 (fun _ => False) := by
  refine zr_entO (by decide) (Nat.le_of_ble_eq_true rfl) ?_
  intro p e s m below meth c ⟨hx, hb, hr, hml, hown, hts, hlocks, hnm⟩ ls hl hP hK hE
  have hown : s.vm.findClass RX6 = some m.cls := hown
  have hl : lv_has ls 1 [(0, .ref tA)] := hl
  refine lv_aload_n hx hb dX6_free_0 rfl (lv_at hl 0 rfl) ?_
  refine va_get (D := G.1) (ci := 6) (v := .int thouses) (C := RX6) (T := TX6) (N := 15) hx hb hts in_X6 hown hK.1 hP 0 rfl rfl 2 (Nat.le_of_ble_eq_true rfl) (hts _ q299) (fun _ h => h) rfl dX6_free_1 ?_
  refine lv_aload_n hx hb dX6_free_4 rfl (lv_at hl 0 rfl) ?_
  refine zr_obV ⟨hx, hb, hml, hown, hts⟩ (mt_tf_stuck l G tA tA_be tA_le tA_mo tA_rn tA_cn tA_bo tA_st Wd R thouses talways tnever trules tcitizens tring tbeside tleast tmost trnames) (cwV 0 hts (lw_V q1031 q973 q974 q143 q975) rfl rfl rfl hd_X6_stuck ⟨(Nat.le_of_ble_eq_true rfl), (Nat.le_of_ble_eq_true rfl)⟩) hP hK hE 0 6 rfl rfl rfl hl.1 rfl (Nat.le_of_ble_eq_true rfl) dX6_free_5 ⟨Nat.le_refl _, Nat.le_refl _⟩ ?_
  refine lv_iconst (v := (-1)) hx hb dX6_free_8 (by decide) ?_
  refine lv_ixor hx hb dX6_free_9 ?_
  refine lv_iand hx hb dX6_free_10 ?_
  exact zr_oi hx hb hr hlocks dX6_free_11 rfl
def tf_isHouse (thouses : Int32) (cl : Int32) : Bool :=
  (if ((thouses >>> (cl &&& 31)) &&& 1) = 1 then
    true
  else
    false)
theorem hd_X6_isHouse : yX6_isHouse.cls = RX6 ∧ yX6_isHouse.cls ≠ "java/lang/invoke/MethodHandle" ∧ yX6_isHouse.cls ≠ "java/lang/invoke/VarHandle" ∧ (parseMethodDescriptor yX6_isHouse.desc).map (fun d => d.parameters.length) = some 1 := by decide +kernel
set_option maxHeartbeats 4000000 in
set_option maxRecDepth 100000 in
theorem mt_tf_isHouse (l : Launch) (G : zG) (tA : Nat) (tA_be : Nat) (tA_le : Nat) (tA_mo : Nat) (tA_rn : Nat) (tA_cn : Nat) (tA_bo : Nat) (tA_st : Nat) (Wd : Nat) (R : Nat) (thouses : Int32) (talways : Int32) (tnever : Int32) (trules : Int32) (tcitizens : Int32) (tring : Bool) (tbeside : Nat → Int32) (tleast : Nat → Int32) (tmost : Nat → Int32) (trnames : Nat → Int64) (cl : Int32) : Met l yX6_isHouse (ws_ yX6_isHouse cX6_isHouse 2 (some .boolean)) (zR 1 0 0) (zPo G [.ref tA, .int cl] (tW G tA tA_be tA_le tA_mo tA_rn tA_cn tA_bo tA_st (nI Wd) (nI R) thouses talways tnever trules tcitizens tring tbeside tleast tmost trnames)) (k2_QcV (.int (zb (tf_isHouse thouses cl)))) 0 0 (fun _ => False) := by
  refine zr_entO (by decide) (Nat.le_of_ble_eq_true rfl) ?_
  intro p e s m below meth c ⟨hx, hb, hr, hml, hown, hts, hlocks, hnm⟩ ls hl hP hK hE
  have hown : s.vm.findClass RX6 = some m.cls := hown
  have hl : lv_has ls 2 [(0, .ref tA), (1, .int cl)] := hl
  refine lv_aload_n hx hb dX6_isHouse_0 rfl (lv_at hl 0 rfl) ?_
  refine va_get (D := G.1) (ci := 6) (v := .int thouses) (C := RX6) (T := TX6) (N := 15) hx hb hts in_X6 hown hK.1 hP 0 rfl rfl 2 (Nat.le_of_ble_eq_true rfl) (hts _ q299) (fun _ h => h) rfl dX6_isHouse_1 ?_
  refine lv_iload_n hx hb dX6_isHouse_4 rfl (lv_at hl 1 rfl) ?_
  refine lv_ishr hx hb dX6_isHouse_5 ?_
  refine lv_iconst (v := 1) hx hb dX6_isHouse_6 (by decide) ?_
  refine lv_iand hx hb dX6_isHouse_7 ?_
  refine lv_iconst (v := 1) hx hb dX6_isHouse_8 (by decide) ?_
  refine lv_icmp_ne (tgt := 16) hx hb dX6_isHouse_9 (by decide) (fun c_1 => ?_) (fun c_1 => ?_)
  · refine lv_iconst (v := 0) hx hb dX6_isHouse_16 (by decide) ?_
    have e_ : tf_isHouse thouses cl = false := by rw [tf_isHouse, if_neg c_1]
    exact zr_oz hx hb hr hlocks dX6_isHouse_17 rfl (congrArg (fun z => Value.int (zb z)) e_)
  · refine lv_iconst (v := 1) hx hb dX6_isHouse_12 (by decide) ?_
    refine lv_goto (tgt := 17) hx hb dX6_isHouse_13 (by decide) ?_
    have e_ : tf_isHouse thouses cl = true := by rw [tf_isHouse, if_pos c_1]
    exact zr_oz hx hb hr hlocks dX6_isHouse_17 rfl (congrArg (fun z => Value.int (zb z)) e_)
def tf_joins (Wd : Nat) (tring : Bool) : Bool :=
  (if tring = true then
    (if Wd ≤ 2 then
      false
    else
      true)
  else
    false)
theorem hd_X6_joins : yX6_joins.cls = RX6 ∧ yX6_joins.cls ≠ "java/lang/invoke/MethodHandle" ∧ yX6_joins.cls ≠ "java/lang/invoke/VarHandle" ∧ (parseMethodDescriptor yX6_joins.desc).map (fun d => d.parameters.length) = some 0 := by decide +kernel
set_option maxHeartbeats 4000000 in
set_option maxRecDepth 100000 in
theorem mt_tf_joins (l : Launch) (G : zG) (tA : Nat) (tA_be : Nat) (tA_le : Nat) (tA_mo : Nat) (tA_rn : Nat) (tA_cn : Nat) (tA_bo : Nat) (tA_st : Nat) (Wd : Nat) (R : Nat) (thouses : Int32) (talways : Int32) (tnever : Int32) (trules : Int32) (tcitizens : Int32) (tring : Bool) (tbeside : Nat → Int32) (tleast : Nat → Int32) (tmost : Nat → Int32) (trnames : Nat → Int64) (hW5 : Wd ≤ 5) : Met l yX6_joins (ws_ yX6_joins cX6_joins 1 (some .boolean)) (zR 1 0 0) (zPo G [.ref tA] (tW G tA tA_be tA_le tA_mo tA_rn tA_cn tA_bo tA_st (nI Wd) (nI R) thouses talways tnever trules tcitizens tring tbeside tleast tmost trnames)) (k2_QcV (.int (zb (tf_joins Wd tring)))) 0 0 (fun _ => False) := by
  refine zr_entO (by decide) (Nat.le_of_ble_eq_true rfl) ?_
  intro p e s m below meth c ⟨hx, hb, hr, hml, hown, hts, hlocks, hnm⟩ ls hl hP hK hE
  have hown : s.vm.findClass RX6 = some m.cls := hown
  have hl : lv_has ls 1 [(0, .ref tA)] := hl
  refine lv_aload_n hx hb dX6_joins_0 rfl (lv_at hl 0 rfl) ?_
  refine va_get (D := G.1) (ci := 6) (v := .int (zb tring)) (C := RX6) (T := TX6) (N := 15) hx hb hts in_X6 hown hK.1 hP 0 rfl rfl 7 (Nat.le_of_ble_eq_true rfl) (hts _ q316) (fun _ h => h) rfl dX6_joins_1 ?_
  refine zr_eqB tring (tgt := 19) hx hb dX6_joins_4 (by decide) (fun c_1 => ?_) (fun c_1 => ?_)
  · refine lv_iconst (v := 0) hx hb dX6_joins_19 (by decide) ?_
    have e_ : tf_joins Wd tring = false := by rw [tf_joins, if_neg c_1]
    exact zr_oz hx hb hr hlocks dX6_joins_20 rfl (congrArg (fun z => Value.int (zb z)) e_)
  · refine lv_aload_n hx hb dX6_joins_7 rfl (lv_at hl 0 rfl) ?_
    refine va_get (D := G.1) (ci := 6) (v := .int (nI Wd)) (C := RX6) (T := TX6) (N := 15) hx hb hts in_X6 hown hK.1 hP 0 rfl rfl 0 (Nat.le_of_ble_eq_true rfl) (hts _ q291) (fun _ h => h) rfl dX6_joins_8 ?_
    refine lv_iconst (v := 2) hx hb dX6_joins_11 (by decide) ?_
    refine zr_le Wd 2 (by omega) (by decide) (tgt := 19) hx hb dX6_joins_12 (by decide) (fun c_2 => ?_) (fun c_2 => ?_)
    · refine lv_iconst (v := 0) hx hb dX6_joins_19 (by decide) ?_
      have e_ : tf_joins Wd tring = false := by rw [tf_joins, if_pos c_1, if_pos c_2]
      exact zr_oz hx hb hr hlocks dX6_joins_20 rfl (congrArg (fun z => Value.int (zb z)) e_)
    · refine lv_iconst (v := 1) hx hb dX6_joins_15 (by decide) ?_
      refine lv_goto (tgt := 20) hx hb dX6_joins_16 (by decide) ?_
      have e_ : tf_joins Wd tring = true := by rw [tf_joins, if_pos c_1, if_neg c_2]
      exact zr_oz hx hb hr hlocks dX6_joins_20 rfl (congrArg (fun z => Value.int (zb z)) e_)
def tf_ruleNamed_B2 (nr : Nat) (trnames : Nat → Int64) (nm : Int64) (s_1 : Nat) : (Nat) ⊕ ((Nat) ⊕ (Int32)) :=
  (if nr ≤ s_1 then
    .inr (.inl s_1)
  else
    (if (trnames s_1) = nm then
      .inr (.inr (nI s_1))
    else
      .inl (s_1 + 1)))
def tf_ruleNamed_L2 (nr : Nat) (trnames : Nat → Int64) (nm : Int64) (s_1 : Nat) : (Nat) ⊕ (Int32) := zw (tf_ruleNamed_B2 nr trnames nm) (.inl s_1) ((nr - s_1) + 1) s_1
def tf_ruleNamed (nr : Nat) (trnames : Nat → Int64) (nm : Int64) : Int32 :=
  zcase (tf_ruleNamed_L2 nr trnames nm 0) (fun t_1 =>
  (-1)) (fun r => r)
theorem hd_X6_ruleNamed : yX6_ruleNamed.cls = RX6 ∧ yX6_ruleNamed.cls ≠ "java/lang/invoke/MethodHandle" ∧ yX6_ruleNamed.cls ≠ "java/lang/invoke/VarHandle" ∧ (parseMethodDescriptor yX6_ruleNamed.desc).map (fun d => d.parameters.length) = some 1 := by decide +kernel
set_option maxHeartbeats 4000000 in
set_option maxRecDepth 100000 in
theorem mt_tf_ruleNamed (l : Launch) (G : zG) (tA : Nat) (tA_be : Nat) (tA_le : Nat) (tA_mo : Nat) (tA_rn : Nat) (tA_cn : Nat) (tA_bo : Nat) (tA_st : Nat) (Wd : Nat) (R : Nat) (thouses : Int32) (talways : Int32) (tnever : Int32) (nr : Nat) (tcitizens : Int32) (tring : Bool) (tbeside : Nat → Int32) (tleast : Nat → Int32) (tmost : Nat → Int32) (trnames : Nat → Int64) (nm : Int64) (hn4 : nr ≤ 4) : Met l yX6_ruleNamed (ws_ yX6_ruleNamed cX6_ruleNamed 4 (some .int)) (zR 1 0 0) (zPo G [.ref tA, .long nm] (tW G tA tA_be tA_le tA_mo tA_rn tA_cn tA_bo tA_st (nI Wd) (nI R) thouses talways tnever (nI nr) tcitizens tring tbeside tleast tmost trnames)) (k2_QcV (.int (tf_ruleNamed nr trnames nm))) 0 0 (fun _ => False) := by
  refine zr_entO (by decide) (Nat.le_of_ble_eq_true rfl) ?_
  intro p e s m below meth c ⟨hx, hb, hr, hml, hown, hts, hlocks, hnm⟩ ls hl hP hK hE
  have hown : s.vm.findClass RX6 = some m.cls := hown
  have hl : lv_has ls 4 [(0, .ref tA), (1, .long nm)] := hl
  refine lv_iconst (v := 0) hx hb dX6_ruleNamed_0 (by decide) ?_
  refine lv_istore_n (lv' := [(3, .int 0), (0, .ref tA), (1, .long nm)]) hx hb dX6_ruleNamed_1 rfl hl (by decide) rfl (fun ls hl => ?_)
  have hx_1 : ∀ t_1 : Nat, tf_ruleNamed_L2 nr trnames nm 0 = .inl t_1 → ∀ ls : Array Slot, lv_has ls 4 [] → W p l e (zR 1 0 0) s m ([.ref tA, .long nm] : List Value).toArray below meth c s.heap [] 0 0 (MQ below (k2_QcV (.int (tf_ruleNamed nr trnames nm))) ([.ref tA, .long nm] : List Value).toArray s 0 0 (fun _ => False)) (F0 m 29 ls []) := by
    intro t_1 ht_1 ls hl
    refine lv_iconst (v := (-1)) hx hb dX6_ruleNamed_29 (by decide) ?_
    have e_ : tf_ruleNamed nr trnames nm = (-1) := by rw [tf_ruleNamed, zcase_l ht_1]
    exact zr_oi hx hb hr hlocks dX6_ruleNamed_30 (congrArg Value.int e_)
  have hlp_1 : ∀ (n : Nat) (s_1 : Nat), nr - s_1 < n → zw (tf_ruleNamed_B2 nr trnames nm) (.inl 0) n s_1 = tf_ruleNamed_L2 nr trnames nm 0 → s_1 ≤ nr → ∀ ls : Array Slot, lv_has ls 4 [(3, .int (nI s_1)), (0, .ref tA), (1, .long nm)] → W p l e (zR 1 0 0) s m ([.ref tA, .long nm] : List Value).toArray below meth c s.heap [] 0 0 (MQ below (k2_QcV (.int (tf_ruleNamed nr trnames nm))) ([.ref tA, .long nm] : List Value).toArray s 0 0 (fun _ => False)) (F0 m 2 ls []) := by
    intro n
    induction n with
    | zero => exact fun _ h => absurd h (Nat.not_lt_zero _)
    | succ n ih_1 =>
      intro s_1 hmu_1 hR_1 hi3 ls hl
      refine lv_iload_n hx hb dX6_ruleNamed_2 rfl (lv_at hl 0 rfl) ?_
      refine lv_aload_n hx hb dX6_ruleNamed_3 rfl (lv_at hl 1 rfl) ?_
      refine va_get (D := G.1) (ci := 6) (v := .int (nI nr)) (C := RX6) (T := TX6) (N := 15) hx hb hts in_X6 hown hK.1 hP 0 rfl rfl 5 (Nat.le_of_ble_eq_true rfl) (hts _ q309) (fun _ h => h) rfl dX6_ruleNamed_4 ?_
      refine zr_ge s_1 nr (by omega) (by omega) (tgt := 29) hx hb dX6_ruleNamed_7 (by decide) (fun c_2 => ?_) (fun c_2 => ?_)
      · exact hx_1 s_1 (hR_1.symm.trans (zw_r (by rw [tf_ruleNamed_B2, if_pos c_2]))) ls (lv_sub hl [] rfl)
      · refine lv_aload_n hx hb dX6_ruleNamed_10 rfl (lv_at hl 1 rfl) ?_
        refine va_get (D := G.1) (ci := 6) (v := .ref tA_rn) (C := RX6) (T := TX6) (N := 15) hx hb hts in_X6 hown hK.1 hP 0 rfl rfl 11 (Nat.le_of_ble_eq_true rfl) (hts _ q329) (fun _ h => h) rfl dX6_ruleNamed_11 ?_
        refine lv_iload_n hx hb dX6_ruleNamed_14 rfl (lv_at hl 0 rfl) ?_
        refine zr_lald s_1 (v := trnames s_1) hx hb hK hP 4 rfl rfl (Nat.le_of_ble_eq_true rfl) rfl (by omega) rfl dX6_ruleNamed_15 ?_
        refine lv_lload_n hx hb dX6_ruleNamed_16 rfl (lv_at hl 2 rfl) ?_
        refine W.lcmp hx hb dX6_ruleNamed_17 ?_
        refine zr_lne (tgt := 23) hx hb dX6_ruleNamed_18 (by decide) (fun c_3 => ?_) (fun c_3 => ?_)
        · refine lv_iinc (v := nI (s_1 + 1)) (lv' := [(3, .int (nI (s_1 + 1))), (0, .ref tA), (1, .long nm)]) hx hb dX6_ruleNamed_23 hl (k := 0) rfl (nI_add s_1 1) (by decide) rfl (fun ls hl => ?_)
          refine lv_goto (tgt := 2) hx hb dX6_ruleNamed_26 (by decide) ?_
          exact ih_1 (s_1 + 1) (by omega) ((zw_l (by rw [tf_ruleNamed_B2, if_neg c_2, if_neg c_3])).symm.trans hR_1) (by omega) ls (lv_sub hl [0, 1, 2] rfl)
        · refine lv_iload_n hx hb dX6_ruleNamed_21 rfl (lv_at hl 0 rfl) ?_
          have hr_1 : tf_ruleNamed_L2 nr trnames nm 0 = .inr (nI s_1) := hR_1.symm.trans (zw_r (by rw [tf_ruleNamed_B2, if_neg c_2, if_pos c_3]))
          have e_ : tf_ruleNamed nr trnames nm = nI s_1 := by rw [tf_ruleNamed, zcase_r hr_1]
          exact zr_oi hx hb hr hlocks dX6_ruleNamed_22 (congrArg Value.int e_)
  exact hlp_1 _ 0 (Nat.lt_succ_self _) (by rw [tf_ruleNamed_L2]) (by omega) ls (lv_sub hl [0, 1, 2] rfl)
def hf_becomes (uborn : Nat → Int32) (ustays : Nat → Int32) (rule : Int32) (lit_ : Bool) (nb : Int32) : Bool :=
  (if rule < 0 then
    false
  else
    (if lit_ = true then
      (if (((ustays rule.toNatClampNeg) >>> (nb &&& 31)) &&& 1) = 1 then
        true
      else
        false)
    else
      (if (((uborn rule.toNatClampNeg) >>> (nb &&& 31)) &&& 1) = 1 then
        true
      else
        false)))
theorem hd_X5_becomes : yX5_becomes.cls = RX5 ∧ yX5_becomes.cls ≠ "java/lang/invoke/MethodHandle" ∧ yX5_becomes.cls ≠ "java/lang/invoke/VarHandle" ∧ (parseMethodDescriptor yX5_becomes.desc).map (fun d => d.parameters.length) = some 3 := by decide +kernel
set_option maxHeartbeats 4000000 in
set_option maxRecDepth 100000 in
theorem mt_hf_becomes (l : Launch) (G : zG) (uA : Nat) (tA : Nat) (uA_bo : Nat) (uA_st : Nat) (uA_se : Nat) (ulit : Int32) (umayor : Int32) (unight : Int32) (uoil : Int32) (uborn : Nat → Int32) (ustays : Nat → Int32) (useen : Nat → Int32) (tA_be : Nat) (tA_le : Nat) (tA_mo : Nat) (tA_rn : Nat) (tA_cn : Nat) (tA_bo : Nat) (tA_st : Nat) (Wd : Nat) (R : Nat) (thouses : Int32) (talways : Int32) (tnever : Int32) (nr : Nat) (nc : Nat) (tring : Bool) (tbeside : Nat → Int32) (tleast : Nat → Int32) (tmost : Nat → Int32) (trnames : Nat → Int64) (rule : Int32) (lit_ : Bool) (nb : Int32) (hT : tOK Wd R nr nc) (hru : rule < 0 ∨ (¬ rule < 0 ∧ rule.toNatClampNeg < nr)) : Met l yX5_becomes (ws_ yX5_becomes cX5_becomes 4 (some .boolean)) (zR 1 0 0) (zPo G [.ref uA, .int rule, .int (zb lit_), .int nb] ((hW G uA tA uA_bo uA_st uA_se ulit umayor unight uoil uborn ustays useen) ++ (tW G tA tA_be tA_le tA_mo tA_rn tA_cn tA_bo tA_st (nI Wd) (nI R) thouses talways tnever (nI nr) (nI nc) tring tbeside tleast tmost trnames))) (k2_QcV (.int (zb (hf_becomes uborn ustays rule lit_ nb)))) 0 0 (fun _ => False) := by
  refine zr_entO (by decide) (Nat.le_of_ble_eq_true rfl) ?_
  intro p e s m below meth c ⟨hx, hb, hr, hml, hown, hts, hlocks, hnm⟩ ls hl hP hK hE
  have hown : s.vm.findClass RX5 = some m.cls := hown
  have hl : lv_has ls 4 [(0, .ref uA), (1, .int rule), (2, .int (zb lit_)), (3, .int nb)] := hl
  have hTT := hT
  obtain ⟨hW0, hW5, hR0, hR6, hn4, hc6, hWR⟩ := hTT
  refine lv_iload_n hx hb dX5_becomes_0 rfl (lv_at hl 1 rfl) ?_
  refine lv_if_lt (tgt := 35) hx hb dX5_becomes_1 (by decide) (fun c_1 => ?_) (fun c_1 => ?_)
  · refine lv_iconst (v := 0) hx hb dX5_becomes_35 (by decide) ?_
    have e_ : hf_becomes uborn ustays rule lit_ nb = false := by rw [hf_becomes, if_pos c_1]
    exact zr_oz hx hb hr hlocks dX5_becomes_36 rfl (congrArg (fun z => Value.int (zb z)) e_)
  · have hq4 := (hru.resolve_left c_1).2
    have hq0 := c_1
    refine lv_iload_n hx hb dX5_becomes_4 rfl (lv_at hl 2 rfl) ?_
    refine zr_eqB lit_ (tgt := 17) hx hb dX5_becomes_5 (by decide) (fun c_2 => ?_) (fun c_2 => ?_)
    · refine lv_aload_n hx hb dX5_becomes_17 rfl (lv_at hl 0 rfl) ?_
      refine va_get (D := G.1) (ci := 5) (v := .ref uA_bo) (C := RX5) (T := TX5) (N := 8) hx hb hts in_X5 hown hK.1 hP 0 rfl rfl 1 (Nat.le_of_ble_eq_true rfl) (hts _ q375) (fun _ h => h) rfl dX5_becomes_18 ?_
      refine lv_iload_n hx hb dX5_becomes_21 rfl (lv_at hl 1 rfl) ?_
      refine zr_iald rule.toNatClampNeg (v := uborn rule.toNatClampNeg) hx hb hK hP 1 rfl rfl (Nat.le_of_ble_eq_true rfl) (z_nn hq0) (by omega) rfl dX5_becomes_22 ?_
      refine lv_iload_n hx hb dX5_becomes_23 rfl (lv_at hl 3 rfl) ?_
      refine lv_ishr hx hb dX5_becomes_24 ?_
      refine lv_iconst (v := 1) hx hb dX5_becomes_25 (by decide) ?_
      refine lv_iand hx hb dX5_becomes_26 ?_
      refine lv_iconst (v := 1) hx hb dX5_becomes_27 (by decide) ?_
      refine lv_icmp_ne (tgt := 35) hx hb dX5_becomes_28 (by decide) (fun c_3 => ?_) (fun c_3 => ?_)
      · refine lv_iconst (v := 0) hx hb dX5_becomes_35 (by decide) ?_
        have e_ : hf_becomes uborn ustays rule lit_ nb = false := by rw [hf_becomes, if_neg c_1, if_neg c_2, if_neg c_3]
        exact zr_oz hx hb hr hlocks dX5_becomes_36 rfl (congrArg (fun z => Value.int (zb z)) e_)
      · refine lv_iconst (v := 1) hx hb dX5_becomes_31 (by decide) ?_
        refine lv_goto (tgt := 36) hx hb dX5_becomes_32 (by decide) ?_
        have e_ : hf_becomes uborn ustays rule lit_ nb = true := by rw [hf_becomes, if_neg c_1, if_neg c_2, if_pos c_3]
        exact zr_oz hx hb hr hlocks dX5_becomes_36 rfl (congrArg (fun z => Value.int (zb z)) e_)
    · refine lv_aload_n hx hb dX5_becomes_8 rfl (lv_at hl 0 rfl) ?_
      refine va_get (D := G.1) (ci := 5) (v := .ref uA_st) (C := RX5) (T := TX5) (N := 8) hx hb hts in_X5 hown hK.1 hP 0 rfl rfl 2 (Nat.le_of_ble_eq_true rfl) (hts _ q377) (fun _ h => h) rfl dX5_becomes_9 ?_
      refine lv_iload_n hx hb dX5_becomes_12 rfl (lv_at hl 1 rfl) ?_
      refine zr_iald rule.toNatClampNeg (v := ustays rule.toNatClampNeg) hx hb hK hP 2 rfl rfl (Nat.le_of_ble_eq_true rfl) (z_nn hq0) (by omega) rfl dX5_becomes_13 ?_
      refine lv_goto (tgt := 23) hx hb dX5_becomes_14 (by decide) ?_
      refine lv_iload_n hx hb dX5_becomes_23 rfl (lv_at hl 3 rfl) ?_
      refine lv_ishr hx hb dX5_becomes_24 ?_
      refine lv_iconst (v := 1) hx hb dX5_becomes_25 (by decide) ?_
      refine lv_iand hx hb dX5_becomes_26 ?_
      refine lv_iconst (v := 1) hx hb dX5_becomes_27 (by decide) ?_
      refine lv_icmp_ne (tgt := 35) hx hb dX5_becomes_28 (by decide) (fun c_4 => ?_) (fun c_4 => ?_)
      · refine lv_iconst (v := 0) hx hb dX5_becomes_35 (by decide) ?_
        have e_ : hf_becomes uborn ustays rule lit_ nb = false := by rw [hf_becomes, if_neg c_1, if_pos c_2, if_neg c_4]
        exact zr_oz hx hb hr hlocks dX5_becomes_36 rfl (congrArg (fun z => Value.int (zb z)) e_)
      · refine lv_iconst (v := 1) hx hb dX5_becomes_31 (by decide) ?_
        refine lv_goto (tgt := 36) hx hb dX5_becomes_32 (by decide) ?_
        have e_ : hf_becomes uborn ustays rule lit_ nb = true := by rw [hf_becomes, if_neg c_1, if_pos c_2, if_pos c_4]
        exact zr_oz hx hb hr hlocks dX5_becomes_36 rfl (congrArg (fun z => Value.int (zb z)) e_)
def hf_nextBy_B20 (uborn : Nat → Int32) (ustays : Nat → Int32) (Wd : Nat) (R : Nat) (thouses : Int32) (talways : Int32) (tnever : Int32) (tbeside : Nat → Int32) (rule : Int32) (pic : Int32) (k_1 : Nat) (s_1 : Int32) : Int32 :=
  (if (((thouses &&& ((talways ||| tnever) ^^^ (-1))) >>> ((nI k_1) &&& 31)) &&& 1) = 1 then
    (if ((pic >>> ((nI k_1) &&& 31)) &&& 1) = 1 then
      (if (hf_becomes uborn ustays rule true (nI (zpc (pic &&& (tbeside k_1))))) = true then
        s_1 ||| ((1 : Int32) <<< ((nI k_1) &&& 31))
      else
        s_1)
    else
      (if (hf_becomes uborn ustays rule false (nI (zpc (pic &&& (tbeside k_1))))) = true then
        s_1 ||| ((1 : Int32) <<< ((nI k_1) &&& 31))
      else
        s_1))
  else
    s_1)
def hf_nextBy_L20 (uborn : Nat → Int32) (ustays : Nat → Int32) (Wd : Nat) (R : Nat) (thouses : Int32) (talways : Int32) (tnever : Int32) (tbeside : Nat → Int32) (rule : Int32) (pic : Int32) (s_1 : Int32) : Int32 := zf (hf_nextBy_B20 uborn ustays Wd R thouses talways tnever tbeside rule pic) s_1 (Wd * R)
def hf_nextBy (uborn : Nat → Int32) (ustays : Nat → Int32) (Wd : Nat) (R : Nat) (thouses : Int32) (talways : Int32) (tnever : Int32) (tbeside : Nat → Int32) (rule : Int32) (pic : Int32) : Int32 :=
  zlet (hf_nextBy_L20 uborn ustays Wd R thouses talways tnever tbeside rule pic talways) (fun s_1 =>
  s_1)
theorem hd_X5_nextBy : yX5_nextBy.cls = RX5 ∧ yX5_nextBy.cls ≠ "java/lang/invoke/MethodHandle" ∧ yX5_nextBy.cls ≠ "java/lang/invoke/VarHandle" ∧ (parseMethodDescriptor yX5_nextBy.desc).map (fun d => d.parameters.length) = some 2 := by decide +kernel
set_option maxHeartbeats 4000000 in
set_option maxRecDepth 100000 in
theorem mt_hf_nextBy (l : Launch) (G : zG) (uA : Nat) (tA : Nat) (uA_bo : Nat) (uA_st : Nat) (uA_se : Nat) (ulit : Int32) (umayor : Int32) (unight : Int32) (uoil : Int32) (uborn : Nat → Int32) (ustays : Nat → Int32) (useen : Nat → Int32) (tA_be : Nat) (tA_le : Nat) (tA_mo : Nat) (tA_rn : Nat) (tA_cn : Nat) (tA_bo : Nat) (tA_st : Nat) (Wd : Nat) (R : Nat) (thouses : Int32) (talways : Int32) (tnever : Int32) (nr : Nat) (nc : Nat) (tring : Bool) (tbeside : Nat → Int32) (tleast : Nat → Int32) (tmost : Nat → Int32) (trnames : Nat → Int64) (rule : Int32) (pic : Int32) (hT : tOK Wd R nr nc) (hru : rule < 0 ∨ (¬ rule < 0 ∧ rule.toNatClampNeg < nr)) : Met l yX5_nextBy (ws_ yX5_nextBy cX5_nextBy 6 (some .int)) (zR 3 0 0) (zPo G [.ref uA, .int rule, .int pic] ((hW G uA tA uA_bo uA_st uA_se ulit umayor unight uoil uborn ustays useen) ++ (tW G tA tA_be tA_le tA_mo tA_rn tA_cn tA_bo tA_st (nI Wd) (nI R) thouses talways tnever (nI nr) (nI nc) tring tbeside tleast tmost trnames))) (k2_QcV (.int (hf_nextBy uborn ustays Wd R thouses talways tnever tbeside rule pic))) 0 0 (fun _ => False) := by
  refine zr_entO (by decide) (Nat.le_of_ble_eq_true rfl) ?_
  intro p e s m below meth c ⟨hx, hb, hr, hml, hown, hts, hlocks, hnm⟩ ls hl hP hK hE
  have hown : s.vm.findClass RX5 = some m.cls := hown
  have hl : lv_has ls 6 [(0, .ref uA), (1, .int rule), (2, .int pic)] := hl
  have hTT := hT
  obtain ⟨hW0, hW5, hR0, hR6, hn4, hc6, hWR⟩ := hTT
  refine lv_aload_n hx hb dX5_nextBy_0 rfl (lv_at hl 0 rfl) ?_
  refine va_get (D := G.1) (ci := 5) (v := .ref tA) (C := RX5) (T := TX5) (N := 8) hx hb hts in_X5 hown hK.1 hP 0 rfl rfl 0 (Nat.le_of_ble_eq_true rfl) (hts _ q372) (fun _ h => h) rfl dX5_nextBy_1 ?_
  refine va_getN (D := G.1) (ci := 6) (v := .int talways) (C := RX6) (T := TX6) (N := 15) hx hb hts in_X6 hown hK.1 hP 4 rfl rfl 3 (Nat.le_of_ble_eq_true rfl) ((hK.2.1.1 _ (List.mem_of_getElem? (i := 46) rfl)).use rfl) (fun _ h => h) rfl dX5_nextBy_4 ?_
  refine lv_istore_n (lv' := [(3, .int talways), (0, .ref uA), (1, .int rule), (2, .int pic)]) hx hb dX5_nextBy_7 rfl hl (by decide) rfl (fun ls hl => ?_)
  refine lv_aload_n hx hb dX5_nextBy_8 rfl (lv_at hl 1 rfl) ?_
  refine va_get (D := G.1) (ci := 5) (v := .ref tA) (C := RX5) (T := TX5) (N := 8) hx hb hts in_X5 hown hK.1 hP 0 rfl rfl 0 (Nat.le_of_ble_eq_true rfl) (hts _ q372) (fun _ h => h) rfl dX5_nextBy_9 ?_
  refine zr_obV ⟨hx, hb, hml, hown, hts⟩ (mt_tf_free l G tA tA_be tA_le tA_mo tA_rn tA_cn tA_bo tA_st Wd R thouses talways tnever (nI nr) (nI nc) tring tbeside tleast tmost trnames) (cwV 0 hts (lw_V q1044 q1028 q1029 q143 q1030) rfl rfl rfl hd_X6_free ⟨(Nat.le_of_ble_eq_true rfl), (Nat.le_of_ble_eq_true rfl)⟩) (zP_sub hP (ws' := (tW G tA tA_be tA_le tA_mo tA_rn tA_cn tA_bo tA_st (nI Wd) (nI R) thouses talways tnever (nI nr) (nI nc) tring tbeside tleast tmost trnames)) [4, 5, 6, 7, 8] rfl) hK hE 0 6 rfl rfl rfl hl.1 rfl (Nat.le_of_ble_eq_true rfl) dX5_nextBy_12 ⟨Nat.le_refl _, Nat.le_refl _⟩ ?_
  refine lv_istore (lv' := [(4, .int (thouses &&& ((talways ||| tnever) ^^^ (-1)))), (3, .int talways), (0, .ref uA), (1, .int rule), (2, .int pic)]) hx hb dX5_nextBy_15 hl (by decide) rfl (fun ls hl => ?_)
  refine lv_iconst (v := 0) hx hb dX5_nextBy_17 (by decide) ?_
  refine lv_istore (lv' := [(5, .int 0), (4, .int (thouses &&& ((talways ||| tnever) ^^^ (-1)))), (3, .int talways), (0, .ref uA), (1, .int rule), (2, .int pic)]) hx hb dX5_nextBy_18 hl (by decide) rfl (fun ls hl => ?_)
  have hlp_1 : ∀ (n k_1 : Nat) (s_1 : Int32), k_1 ≤ Wd * R → Wd * R < k_1 + n → zf (hf_nextBy_B20 uborn ustays Wd R thouses talways tnever tbeside rule pic) talways k_1 = s_1 → ∀ ls : Array Slot, lv_has ls 6 [(5, .int (nI k_1)), (4, .int (thouses &&& ((talways ||| tnever) ^^^ (-1)))), (3, .int s_1), (0, .ref uA), (1, .int rule), (2, .int pic)] → W p l e (zR 3 0 0) s m ([.ref uA, .int rule, .int pic] : List Value).toArray below meth c s.heap [] 0 0 (MQ below (k2_QcV (.int (hf_nextBy uborn ustays Wd R thouses talways tnever tbeside rule pic))) ([.ref uA, .int rule, .int pic] : List Value).toArray s 0 0 (fun _ => False)) (F0 m 20 ls []) := by
    intro n
    induction n with
    | zero => intro k_1 s_1 h1 h2; exact absurd h2 (by omega)
    | succ n ih_1 =>
      intro k_1 s_1 hk_1 hn_1 hst_1 ls hl
      refine lv_iload hx hb dX5_nextBy_20 (lv_at hl 0 rfl) ?_
      refine lv_aload_n hx hb dX5_nextBy_22 rfl (lv_at hl 3 rfl) ?_
      refine va_get (D := G.1) (ci := 5) (v := .ref tA) (C := RX5) (T := TX5) (N := 8) hx hb hts in_X5 hown hK.1 hP 0 rfl rfl 0 (Nat.le_of_ble_eq_true rfl) (hts _ q372) (fun _ h => h) rfl dX5_nextBy_23 ?_
      refine zr_obV ⟨hx, hb, hml, hown, hts⟩ (mt_tf_cells l G tA tA_be tA_le tA_mo tA_rn tA_cn tA_bo tA_st Wd R thouses talways tnever (nI nr) (nI nc) tring tbeside tleast tmost trnames) (cwV 0 hts (lw_V q1087 q1088 q1089 q143 q1090) rfl rfl rfl hd_X6_cells ⟨(Nat.le_of_ble_eq_true rfl), (Nat.le_of_ble_eq_true rfl)⟩) (zP_sub hP (ws' := (tW G tA tA_be tA_le tA_mo tA_rn tA_cn tA_bo tA_st (nI Wd) (nI R) thouses talways tnever (nI nr) (nI nc) tring tbeside tleast tmost trnames)) [4, 5, 6, 7, 8] rfl) hK hE 0 6 rfl rfl rfl hl.1 rfl (Nat.le_of_ble_eq_true rfl) dX5_nextBy_26 ⟨Nat.le_refl _, Nat.le_refl _⟩ ?_
      refine zr_ge k_1 (Wd * R) (by omega) (by omega) (tgt := 94) hx hb dX5_nextBy_29 (by decide) (fun c_1 => ?_) (fun c_1 => ?_)
      · have ek_1 : k_1 = Wd * R := Nat.le_antisymm hk_1 c_1
        have hs_1 : hf_nextBy_L20 uborn ustays Wd R thouses talways tnever tbeside rule pic talways = s_1 := by rw [ek_1] at hst_1; exact hst_1
        have hl := lv_sub hl (l' := _) [1, 2, 3, 4, 5] rfl
        refine lv_iload_n hx hb dX5_nextBy_94 rfl (lv_at hl 1 rfl) ?_
        have e_ : hf_nextBy uborn ustays Wd R thouses talways tnever tbeside rule pic = s_1 := by rw [hf_nextBy, zlet_eq hs_1]
        exact zr_oi hx hb hr hlocks dX5_nextBy_95 (congrArg Value.int e_)
      · have hlt_1 : k_1 < Wd * R := Nat.lt_of_not_le c_1
        refine lv_iload hx hb dX5_nextBy_32 (lv_at hl 1 rfl) ?_
        refine lv_iload hx hb dX5_nextBy_34 (lv_at hl 0 rfl) ?_
        refine lv_ishr hx hb dX5_nextBy_36 ?_
        refine lv_iconst (v := 1) hx hb dX5_nextBy_37 (by decide) ?_
        refine lv_iand hx hb dX5_nextBy_38 ?_
        refine lv_iconst (v := 1) hx hb dX5_nextBy_39 (by decide) ?_
        refine lv_icmp_ne (tgt := 88) hx hb dX5_nextBy_40 (by decide) (fun c_2 => ?_) (fun c_2 => ?_)
        · refine lv_iinc (v := nI (k_1 + 1)) (lv' := [(5, .int (nI (k_1 + 1))), (4, .int (thouses &&& ((talways ||| tnever) ^^^ (-1)))), (3, .int s_1), (0, .ref uA), (1, .int rule), (2, .int pic)]) hx hb dX5_nextBy_88 hl (k := 0) rfl (nI_add k_1 1) (by decide) rfl (fun ls hl => ?_)
          refine lv_goto (tgt := 20) hx hb dX5_nextBy_91 (by decide) ?_
          exact ih_1 (k_1 + 1) s_1 hlt_1 (by omega) (zf_s hst_1 (by rw [hf_nextBy_B20, if_neg c_2])) ls (lv_sub hl [0, 1, 2, 3, 4, 5] rfl)
        · refine lv_aload_n hx hb dX5_nextBy_43 rfl (lv_at hl 3 rfl) ?_
          refine lv_iload_n hx hb dX5_nextBy_44 rfl (lv_at hl 4 rfl) ?_
          refine lv_iload_n hx hb dX5_nextBy_45 rfl (lv_at hl 5 rfl) ?_
          refine lv_iload hx hb dX5_nextBy_46 (lv_at hl 0 rfl) ?_
          refine lv_ishr hx hb dX5_nextBy_48 ?_
          refine lv_iconst (v := 1) hx hb dX5_nextBy_49 (by decide) ?_
          refine lv_iand hx hb dX5_nextBy_50 ?_
          refine lv_iconst (v := 1) hx hb dX5_nextBy_51 (by decide) ?_
          refine lv_icmp_ne (tgt := 59) hx hb dX5_nextBy_52 (by decide) (fun c_3 => ?_) (fun c_3 => ?_)
          · refine lv_iconst (v := 0) hx hb dX5_nextBy_59 (by decide) ?_
            refine lv_iload_n hx hb dX5_nextBy_60 rfl (lv_at hl 5 rfl) ?_
            refine lv_aload_n hx hb dX5_nextBy_61 rfl (lv_at hl 3 rfl) ?_
            refine va_get (D := G.1) (ci := 5) (v := .ref tA) (C := RX5) (T := TX5) (N := 8) hx hb hts in_X5 hown hK.1 hP 0 rfl rfl 0 (Nat.le_of_ble_eq_true rfl) (hts _ q372) (fun _ h => h) rfl dX5_nextBy_62 ?_
            refine va_getN (D := G.1) (ci := 6) (v := .ref tA_be) (C := RX6) (T := TX6) (N := 15) hx hb hts in_X6 hown hK.1 hP 4 rfl rfl 8 (Nat.le_of_ble_eq_true rfl) ((hK.2.1.1 _ (List.mem_of_getElem? (i := 47) rfl)).use rfl) (fun _ h => h) rfl dX5_nextBy_65 ?_
            refine lv_iload hx hb dX5_nextBy_68 (lv_at hl 0 rfl) ?_
            refine zr_iald k_1 (v := tbeside k_1) hx hb hK hP 5 rfl rfl (Nat.le_of_ble_eq_true rfl) rfl (by omega) rfl dX5_nextBy_70 ?_
            refine lv_iand hx hb dX5_nextBy_71 ?_
            refine zr_puS ⟨hx, hb, hml, hown, hts⟩ (mt_bitCountN l (pic &&& (tbeside k_1))) (va_cwS 1 hts (lw_S q1091 q854 q155 q855) rfl rfl rfl hd_J10_bitCount.2 ⟨(Nat.le_of_ble_eq_true rfl), (Nat.le_of_ble_eq_true rfl)⟩) rfl hl.1 rfl (Nat.le_of_ble_eq_true rfl) dX5_nextBy_72 ⟨Nat.le_refl _, Nat.le_refl _⟩ ?_
            refine zr_obV ⟨hx, hb, hml, hown, hts⟩ (mt_hf_becomes l G uA tA uA_bo uA_st uA_se ulit umayor unight uoil uborn ustays useen tA_be tA_le tA_mo tA_rn tA_cn tA_bo tA_st Wd R thouses talways tnever nr nc tring tbeside tleast tmost trnames rule false (nI (zpc (pic &&& (tbeside k_1)))) hT hru) (cwV 3 hts (lw_V q1092 q1093 q1094 q142 q1095) rfl rfl rfl hd_X5_becomes ⟨(Nat.le_of_ble_eq_true rfl), (Nat.le_of_ble_eq_true rfl)⟩) hP hK hE 0 5 rfl rfl rfl hl.1 rfl (Nat.le_of_ble_eq_true rfl) dX5_nextBy_75 ⟨Nat.le_refl _, Nat.le_refl _⟩ ?_
            refine zr_eqB (hf_becomes uborn ustays rule false (nI (zpc (pic &&& (tbeside k_1))))) (tgt := 88) hx hb dX5_nextBy_78 (by decide) (fun c_4 => ?_) (fun c_4 => ?_)
            · refine lv_iinc (v := nI (k_1 + 1)) (lv' := [(5, .int (nI (k_1 + 1))), (4, .int (thouses &&& ((talways ||| tnever) ^^^ (-1)))), (3, .int s_1), (0, .ref uA), (1, .int rule), (2, .int pic)]) hx hb dX5_nextBy_88 hl (k := 0) rfl (nI_add k_1 1) (by decide) rfl (fun ls hl => ?_)
              refine lv_goto (tgt := 20) hx hb dX5_nextBy_91 (by decide) ?_
              exact ih_1 (k_1 + 1) s_1 hlt_1 (by omega) (zf_s hst_1 (by rw [hf_nextBy_B20, if_pos c_2, if_neg c_3, if_neg c_4])) ls (lv_sub hl [0, 1, 2, 3, 4, 5] rfl)
            · refine lv_iload_n hx hb dX5_nextBy_81 rfl (lv_at hl 2 rfl) ?_
              refine lv_iconst (v := 1) hx hb dX5_nextBy_82 (by decide) ?_
              refine lv_iload hx hb dX5_nextBy_83 (lv_at hl 0 rfl) ?_
              refine lv_ishl hx hb dX5_nextBy_85 ?_
              refine lv_ior hx hb dX5_nextBy_86 ?_
              refine lv_istore_n (lv' := [(3, .int (s_1 ||| ((1 : Int32) <<< ((nI k_1) &&& 31)))), (5, .int (nI k_1)), (4, .int (thouses &&& ((talways ||| tnever) ^^^ (-1)))), (0, .ref uA), (1, .int rule), (2, .int pic)]) hx hb dX5_nextBy_87 rfl hl (by decide) rfl (fun ls hl => ?_)
              refine lv_iinc (v := nI (k_1 + 1)) (lv' := [(5, .int (nI (k_1 + 1))), (3, .int (s_1 ||| ((1 : Int32) <<< ((nI k_1) &&& 31)))), (4, .int (thouses &&& ((talways ||| tnever) ^^^ (-1)))), (0, .ref uA), (1, .int rule), (2, .int pic)]) hx hb dX5_nextBy_88 hl (k := 1) rfl (nI_add k_1 1) (by decide) rfl (fun ls hl => ?_)
              refine lv_goto (tgt := 20) hx hb dX5_nextBy_91 (by decide) ?_
              exact ih_1 (k_1 + 1) (s_1 ||| ((1 : Int32) <<< ((nI k_1) &&& 31))) hlt_1 (by omega) (zf_s hst_1 (by rw [hf_nextBy_B20, if_pos c_2, if_neg c_3, if_pos c_4])) ls (lv_sub hl [0, 2, 1, 3, 4, 5] rfl)
          · refine lv_iconst (v := 1) hx hb dX5_nextBy_55 (by decide) ?_
            refine lv_goto (tgt := 60) hx hb dX5_nextBy_56 (by decide) ?_
            refine lv_iload_n hx hb dX5_nextBy_60 rfl (lv_at hl 5 rfl) ?_
            refine lv_aload_n hx hb dX5_nextBy_61 rfl (lv_at hl 3 rfl) ?_
            refine va_get (D := G.1) (ci := 5) (v := .ref tA) (C := RX5) (T := TX5) (N := 8) hx hb hts in_X5 hown hK.1 hP 0 rfl rfl 0 (Nat.le_of_ble_eq_true rfl) (hts _ q372) (fun _ h => h) rfl dX5_nextBy_62 ?_
            refine va_getN (D := G.1) (ci := 6) (v := .ref tA_be) (C := RX6) (T := TX6) (N := 15) hx hb hts in_X6 hown hK.1 hP 4 rfl rfl 8 (Nat.le_of_ble_eq_true rfl) ((hK.2.1.1 _ (List.mem_of_getElem? (i := 47) rfl)).use rfl) (fun _ h => h) rfl dX5_nextBy_65 ?_
            refine lv_iload hx hb dX5_nextBy_68 (lv_at hl 0 rfl) ?_
            refine zr_iald k_1 (v := tbeside k_1) hx hb hK hP 5 rfl rfl (Nat.le_of_ble_eq_true rfl) rfl (by omega) rfl dX5_nextBy_70 ?_
            refine lv_iand hx hb dX5_nextBy_71 ?_
            refine zr_puS ⟨hx, hb, hml, hown, hts⟩ (mt_bitCountN l (pic &&& (tbeside k_1))) (va_cwS 1 hts (lw_S q1091 q854 q155 q855) rfl rfl rfl hd_J10_bitCount.2 ⟨(Nat.le_of_ble_eq_true rfl), (Nat.le_of_ble_eq_true rfl)⟩) rfl hl.1 rfl (Nat.le_of_ble_eq_true rfl) dX5_nextBy_72 ⟨Nat.le_refl _, Nat.le_refl _⟩ ?_
            refine zr_obV ⟨hx, hb, hml, hown, hts⟩ (mt_hf_becomes l G uA tA uA_bo uA_st uA_se ulit umayor unight uoil uborn ustays useen tA_be tA_le tA_mo tA_rn tA_cn tA_bo tA_st Wd R thouses talways tnever nr nc tring tbeside tleast tmost trnames rule true (nI (zpc (pic &&& (tbeside k_1)))) hT hru) (cwV 3 hts (lw_V q1092 q1093 q1094 q142 q1095) rfl rfl rfl hd_X5_becomes ⟨(Nat.le_of_ble_eq_true rfl), (Nat.le_of_ble_eq_true rfl)⟩) hP hK hE 0 5 rfl rfl rfl hl.1 rfl (Nat.le_of_ble_eq_true rfl) dX5_nextBy_75 ⟨Nat.le_refl _, Nat.le_refl _⟩ ?_
            refine zr_eqB (hf_becomes uborn ustays rule true (nI (zpc (pic &&& (tbeside k_1))))) (tgt := 88) hx hb dX5_nextBy_78 (by decide) (fun c_5 => ?_) (fun c_5 => ?_)
            · refine lv_iinc (v := nI (k_1 + 1)) (lv' := [(5, .int (nI (k_1 + 1))), (4, .int (thouses &&& ((talways ||| tnever) ^^^ (-1)))), (3, .int s_1), (0, .ref uA), (1, .int rule), (2, .int pic)]) hx hb dX5_nextBy_88 hl (k := 0) rfl (nI_add k_1 1) (by decide) rfl (fun ls hl => ?_)
              refine lv_goto (tgt := 20) hx hb dX5_nextBy_91 (by decide) ?_
              exact ih_1 (k_1 + 1) s_1 hlt_1 (by omega) (zf_s hst_1 (by rw [hf_nextBy_B20, if_pos c_2, if_pos c_3, if_neg c_5])) ls (lv_sub hl [0, 1, 2, 3, 4, 5] rfl)
            · refine lv_iload_n hx hb dX5_nextBy_81 rfl (lv_at hl 2 rfl) ?_
              refine lv_iconst (v := 1) hx hb dX5_nextBy_82 (by decide) ?_
              refine lv_iload hx hb dX5_nextBy_83 (lv_at hl 0 rfl) ?_
              refine lv_ishl hx hb dX5_nextBy_85 ?_
              refine lv_ior hx hb dX5_nextBy_86 ?_
              refine lv_istore_n (lv' := [(3, .int (s_1 ||| ((1 : Int32) <<< ((nI k_1) &&& 31)))), (5, .int (nI k_1)), (4, .int (thouses &&& ((talways ||| tnever) ^^^ (-1)))), (0, .ref uA), (1, .int rule), (2, .int pic)]) hx hb dX5_nextBy_87 rfl hl (by decide) rfl (fun ls hl => ?_)
              refine lv_iinc (v := nI (k_1 + 1)) (lv' := [(5, .int (nI (k_1 + 1))), (3, .int (s_1 ||| ((1 : Int32) <<< ((nI k_1) &&& 31)))), (4, .int (thouses &&& ((talways ||| tnever) ^^^ (-1)))), (0, .ref uA), (1, .int rule), (2, .int pic)]) hx hb dX5_nextBy_88 hl (k := 1) rfl (nI_add k_1 1) (by decide) rfl (fun ls hl => ?_)
              refine lv_goto (tgt := 20) hx hb dX5_nextBy_91 (by decide) ?_
              exact ih_1 (k_1 + 1) (s_1 ||| ((1 : Int32) <<< ((nI k_1) &&& 31))) hlt_1 (by omega) (zf_s hst_1 (by rw [hf_nextBy_B20, if_pos c_2, if_pos c_3, if_pos c_5])) ls (lv_sub hl [0, 2, 1, 3, 4, 5] rfl)
  exact hlp_1 ((Wd * R) + 1) 0 talways (Nat.zero_le _) (by omega) rfl ls (lv_sub hl [0, 1, 2, 3, 4, 5] rfl)
def hf_next (umayor : Int32) (uborn : Nat → Int32) (ustays : Nat → Int32) (Wd : Nat) (R : Nat) (thouses : Int32) (talways : Int32) (tnever : Int32) (tbeside : Nat → Int32) (pic : Int32) : Int32 :=
  (hf_nextBy uborn ustays Wd R thouses talways tnever tbeside umayor pic)
theorem hd_X5_next : yX5_next.cls = RX5 ∧ yX5_next.cls ≠ "java/lang/invoke/MethodHandle" ∧ yX5_next.cls ≠ "java/lang/invoke/VarHandle" ∧ (parseMethodDescriptor yX5_next.desc).map (fun d => d.parameters.length) = some 1 := by decide +kernel
set_option maxHeartbeats 4000000 in
set_option maxRecDepth 100000 in
theorem mt_hf_next (l : Launch) (G : zG) (uA : Nat) (tA : Nat) (uA_bo : Nat) (uA_st : Nat) (uA_se : Nat) (ulit : Int32) (umayor : Int32) (unight : Int32) (uoil : Int32) (uborn : Nat → Int32) (ustays : Nat → Int32) (useen : Nat → Int32) (tA_be : Nat) (tA_le : Nat) (tA_mo : Nat) (tA_rn : Nat) (tA_cn : Nat) (tA_bo : Nat) (tA_st : Nat) (Wd : Nat) (R : Nat) (thouses : Int32) (talways : Int32) (tnever : Int32) (nr : Nat) (nc : Nat) (tring : Bool) (tbeside : Nat → Int32) (tleast : Nat → Int32) (tmost : Nat → Int32) (trnames : Nat → Int64) (pic : Int32) (hT : tOK Wd R nr nc) (hmy : umayor < 0 ∨ (¬ umayor < 0 ∧ umayor.toNatClampNeg < nr)) : Met l yX5_next (ws_ yX5_next cX5_next 2 (some .int)) (zR 4 0 0) (zPo G [.ref uA, .int pic] ((hW G uA tA uA_bo uA_st uA_se ulit umayor unight uoil uborn ustays useen) ++ (tW G tA tA_be tA_le tA_mo tA_rn tA_cn tA_bo tA_st (nI Wd) (nI R) thouses talways tnever (nI nr) (nI nc) tring tbeside tleast tmost trnames))) (k2_QcV (.int (hf_next umayor uborn ustays Wd R thouses talways tnever tbeside pic))) 0 0 (fun _ => False) := by
  refine zr_entO (by decide) (Nat.le_of_ble_eq_true rfl) ?_
  intro p e s m below meth c ⟨hx, hb, hr, hml, hown, hts, hlocks, hnm⟩ ls hl hP hK hE
  have hown : s.vm.findClass RX5 = some m.cls := hown
  have hl : lv_has ls 2 [(0, .ref uA), (1, .int pic)] := hl
  have hTT := hT
  obtain ⟨hW0, hW5, hR0, hR6, hn4, hc6, hWR⟩ := hTT
  refine lv_aload_n hx hb dX5_next_0 rfl (lv_at hl 0 rfl) ?_
  refine lv_aload_n hx hb dX5_next_1 rfl (lv_at hl 0 rfl) ?_
  refine va_get (D := G.1) (ci := 5) (v := .int umayor) (C := RX5) (T := TX5) (N := 8) hx hb hts in_X5 hown hK.1 hP 0 rfl rfl 5 (Nat.le_of_ble_eq_true rfl) (hts _ q385) (fun _ h => h) rfl dX5_next_2 ?_
  refine lv_iload_n hx hb dX5_next_5 rfl (lv_at hl 1 rfl) ?_
  refine zr_obV ⟨hx, hb, hml, hown, hts⟩ (mt_hf_nextBy l G uA tA uA_bo uA_st uA_se ulit umayor unight uoil uborn ustays useen tA_be tA_le tA_mo tA_rn tA_cn tA_bo tA_st Wd R thouses talways tnever nr nc tring tbeside tleast tmost trnames umayor pic hT hmy) (cwV 2 hts (lw_V q1083 q1084 q1085 q142 q1086) rfl rfl rfl hd_X5_nextBy ⟨(Nat.le_of_ble_eq_true rfl), (Nat.le_of_ble_eq_true rfl)⟩) hP hK hE 0 5 rfl rfl rfl hl.1 rfl (Nat.le_of_ble_eq_true rfl) dX5_next_6 ⟨Nat.le_refl _, Nat.le_refl _⟩ ?_
  have e_ : hf_next umayor uborn ustays Wd R thouses talways tnever tbeside pic = hf_nextBy uborn ustays Wd R thouses talways tnever tbeside umayor pic := by rw [hf_next]
  exact zr_oi hx hb hr hlocks dX5_next_9 (congrArg Value.int e_)
def hf_after_B5 (umayor : Int32) (uborn : Nat → Int32) (ustays : Nat → Int32) (Wd : Nat) (R : Nat) (thouses : Int32) (talways : Int32) (tnever : Int32) (tbeside : Nat → Int32) (nights : Nat) (k_1 : Nat) (s_1 : Int32) : Int32 :=
  hf_next umayor uborn ustays Wd R thouses talways tnever tbeside s_1
def hf_after_L5 (umayor : Int32) (uborn : Nat → Int32) (ustays : Nat → Int32) (Wd : Nat) (R : Nat) (thouses : Int32) (talways : Int32) (tnever : Int32) (tbeside : Nat → Int32) (nights : Nat) (s_1 : Int32) : Int32 := zf (hf_after_B5 umayor uborn ustays Wd R thouses talways tnever tbeside nights) s_1 nights
def hf_after (umayor : Int32) (uborn : Nat → Int32) (ustays : Nat → Int32) (Wd : Nat) (R : Nat) (thouses : Int32) (talways : Int32) (tnever : Int32) (tbeside : Nat → Int32) (pic : Int32) (nights : Nat) : Int32 :=
  zlet (hf_after_L5 umayor uborn ustays Wd R thouses talways tnever tbeside nights pic) (fun s_1 =>
  s_1)
theorem hd_X5_after : yX5_after.cls = RX5 ∧ yX5_after.cls ≠ "java/lang/invoke/MethodHandle" ∧ yX5_after.cls ≠ "java/lang/invoke/VarHandle" ∧ (parseMethodDescriptor yX5_after.desc).map (fun d => d.parameters.length) = some 2 := by decide +kernel
set_option maxHeartbeats 4000000 in
set_option maxRecDepth 100000 in
theorem mt_hf_after (l : Launch) (G : zG) (uA : Nat) (tA : Nat) (uA_bo : Nat) (uA_st : Nat) (uA_se : Nat) (ulit : Int32) (umayor : Int32) (unight : Int32) (uoil : Int32) (uborn : Nat → Int32) (ustays : Nat → Int32) (useen : Nat → Int32) (tA_be : Nat) (tA_le : Nat) (tA_mo : Nat) (tA_rn : Nat) (tA_cn : Nat) (tA_bo : Nat) (tA_st : Nat) (Wd : Nat) (R : Nat) (thouses : Int32) (talways : Int32) (tnever : Int32) (nr : Nat) (nc : Nat) (tring : Bool) (tbeside : Nat → Int32) (tleast : Nat → Int32) (tmost : Nat → Int32) (trnames : Nat → Int64) (pic : Int32) (nights : Nat) (hT : tOK Wd R nr nc) (hmy : umayor < 0 ∨ (¬ umayor < 0 ∧ umayor.toNatClampNeg < nr)) (hnn : nights < 2 ^ 31) : Met l yX5_after (ws_ yX5_after cX5_after 5 (some .int)) (zR 5 0 0) (zPo G [.ref uA, .int pic, .int (nI nights)] ((hW G uA tA uA_bo uA_st uA_se ulit umayor unight uoil uborn ustays useen) ++ (tW G tA tA_be tA_le tA_mo tA_rn tA_cn tA_bo tA_st (nI Wd) (nI R) thouses talways tnever (nI nr) (nI nc) tring tbeside tleast tmost trnames))) (k2_QcV (.int (hf_after umayor uborn ustays Wd R thouses talways tnever tbeside pic nights))) 0 0 (fun _ => False) := by
  refine zr_entO (by decide) (Nat.le_of_ble_eq_true rfl) ?_
  intro p e s m below meth c ⟨hx, hb, hr, hml, hown, hts, hlocks, hnm⟩ ls hl hP hK hE
  have hown : s.vm.findClass RX5 = some m.cls := hown
  have hl : lv_has ls 5 [(0, .ref uA), (1, .int pic), (2, .int (nI nights))] := hl
  have hTT := hT
  obtain ⟨hW0, hW5, hR0, hR6, hn4, hc6, hWR⟩ := hTT
  refine lv_iload_n hx hb dX5_after_0 rfl (lv_at hl 1 rfl) ?_
  refine lv_istore_n (lv' := [(3, .int pic), (0, .ref uA), (1, .int pic), (2, .int (nI nights))]) hx hb dX5_after_1 rfl hl (by decide) rfl (fun ls hl => ?_)
  refine lv_iconst (v := 0) hx hb dX5_after_2 (by decide) ?_
  refine lv_istore (lv' := [(4, .int 0), (3, .int pic), (0, .ref uA), (1, .int pic), (2, .int (nI nights))]) hx hb dX5_after_3 hl (by decide) rfl (fun ls hl => ?_)
  have hlp_1 : ∀ (n k_1 : Nat) (s_1 : Int32), k_1 ≤ nights → nights < k_1 + n → zf (hf_after_B5 umayor uborn ustays Wd R thouses talways tnever tbeside nights) pic k_1 = s_1 → ∀ ls : Array Slot, lv_has ls 5 [(4, .int (nI k_1)), (3, .int s_1), (0, .ref uA), (2, .int (nI nights))] → W p l e (zR 5 0 0) s m ([.ref uA, .int pic, .int (nI nights)] : List Value).toArray below meth c s.heap [] 0 0 (MQ below (k2_QcV (.int (hf_after umayor uborn ustays Wd R thouses talways tnever tbeside pic nights))) ([.ref uA, .int pic, .int (nI nights)] : List Value).toArray s 0 0 (fun _ => False)) (F0 m 5 ls []) := by
    intro n
    induction n with
    | zero => intro k_1 s_1 h1 h2; exact absurd h2 (by omega)
    | succ n ih_1 =>
      intro k_1 s_1 hk_1 hn_1 hst_1 ls hl
      refine lv_iload hx hb dX5_after_5 (lv_at hl 0 rfl) ?_
      refine lv_iload_n hx hb dX5_after_7 rfl (lv_at hl 3 rfl) ?_
      refine zr_ge k_1 nights (by omega) (by omega) (tgt := 23) hx hb dX5_after_8 (by decide) (fun c_1 => ?_) (fun c_1 => ?_)
      · have ek_1 : k_1 = nights := Nat.le_antisymm hk_1 c_1
        have hs_1 : hf_after_L5 umayor uborn ustays Wd R thouses talways tnever tbeside nights pic = s_1 := by rw [ek_1] at hst_1; exact hst_1
        have hl := lv_sub hl (l' := _) [1, 2, 3] rfl
        refine lv_iload_n hx hb dX5_after_23 rfl (lv_at hl 0 rfl) ?_
        have e_ : hf_after umayor uborn ustays Wd R thouses talways tnever tbeside pic nights = s_1 := by rw [hf_after, zlet_eq hs_1]
        exact zr_oi hx hb hr hlocks dX5_after_24 (congrArg Value.int e_)
      · have hlt_1 : k_1 < nights := Nat.lt_of_not_le c_1
        refine lv_aload_n hx hb dX5_after_11 rfl (lv_at hl 2 rfl) ?_
        refine lv_iload_n hx hb dX5_after_12 rfl (lv_at hl 1 rfl) ?_
        refine zr_obV ⟨hx, hb, hml, hown, hts⟩ (mt_hf_next l G uA tA uA_bo uA_st uA_se ulit umayor unight uoil uborn ustays useen tA_be tA_le tA_mo tA_rn tA_cn tA_bo tA_st Wd R thouses talways tnever nr nc tring tbeside tleast tmost trnames s_1 hT hmy) (cwV 1 hts (lw_V q1079 q1080 q1081 q142 q1082) rfl rfl rfl hd_X5_next ⟨(Nat.le_of_ble_eq_true rfl), (Nat.le_of_ble_eq_true rfl)⟩) hP hK hE 0 5 rfl rfl rfl hl.1 rfl (Nat.le_of_ble_eq_true rfl) dX5_after_13 ⟨Nat.le_refl _, Nat.le_refl _⟩ ?_
        refine lv_istore_n (lv' := [(3, .int (hf_next umayor uborn ustays Wd R thouses talways tnever tbeside s_1)), (4, .int (nI k_1)), (0, .ref uA), (2, .int (nI nights))]) hx hb dX5_after_16 rfl hl (by decide) rfl (fun ls hl => ?_)
        refine lv_iinc (v := nI (k_1 + 1)) (lv' := [(4, .int (nI (k_1 + 1))), (3, .int (hf_next umayor uborn ustays Wd R thouses talways tnever tbeside s_1)), (0, .ref uA), (2, .int (nI nights))]) hx hb dX5_after_17 hl (k := 1) rfl (nI_add k_1 1) (by decide) rfl (fun ls hl => ?_)
        refine lv_goto (tgt := 5) hx hb dX5_after_20 (by decide) ?_
        exact ih_1 (k_1 + 1) (hf_next umayor uborn ustays Wd R thouses talways tnever tbeside s_1) hlt_1 (by omega) (zf_s hst_1 (by rw [hf_after_B5])) ls (lv_sub hl [0, 1, 2, 3] rfl)
  exact hlp_1 (nights + 1) 0 pic (Nat.zero_le _) (by omega) rfl ls (lv_sub hl [0, 1, 2, 4] rfl)
def hf_sight (tbeside : Nat → Int32) (pic : Int32) (kk : Nat) : Nat :=
  ((5 * (((pic >>> ((nI kk) &&& 31)) &&& 1).toNatClampNeg)) + (zpc (pic &&& (tbeside kk))))
theorem hd_X5_sight : yX5_sight.cls = RX5 ∧ yX5_sight.cls ≠ "java/lang/invoke/MethodHandle" ∧ yX5_sight.cls ≠ "java/lang/invoke/VarHandle" ∧ (parseMethodDescriptor yX5_sight.desc).map (fun d => d.parameters.length) = some 2 := by decide +kernel
set_option maxHeartbeats 4000000 in
set_option maxRecDepth 100000 in
theorem mt_hf_sight (l : Launch) (G : zG) (uA : Nat) (tA : Nat) (uA_bo : Nat) (uA_st : Nat) (uA_se : Nat) (ulit : Int32) (umayor : Int32) (unight : Int32) (uoil : Int32) (uborn : Nat → Int32) (ustays : Nat → Int32) (useen : Nat → Int32) (tA_be : Nat) (tA_le : Nat) (tA_mo : Nat) (tA_rn : Nat) (tA_cn : Nat) (tA_bo : Nat) (tA_st : Nat) (Wd : Nat) (R : Nat) (thouses : Int32) (talways : Int32) (tnever : Int32) (nr : Nat) (nc : Nat) (tring : Bool) (tbeside : Nat → Int32) (tleast : Nat → Int32) (tmost : Nat → Int32) (trnames : Nat → Int64) (pic : Int32) (kk : Nat) (hT : tOK Wd R nr nc) (hkk : kk < 30) : Met l yX5_sight (ws_ yX5_sight cX5_sight 3 (some .int)) (zR 2 0 0) (zPo G [.ref uA, .int pic, .int (nI kk)] ((hW G uA tA uA_bo uA_st uA_se ulit umayor unight uoil uborn ustays useen) ++ (tW G tA tA_be tA_le tA_mo tA_rn tA_cn tA_bo tA_st (nI Wd) (nI R) thouses talways tnever (nI nr) (nI nc) tring tbeside tleast tmost trnames))) (k2_QcV (.int (nI (hf_sight tbeside pic kk)))) 0 0 (fun _ => False) := by
  refine zr_entO (by decide) (Nat.le_of_ble_eq_true rfl) ?_
  intro p e s m below meth c ⟨hx, hb, hr, hml, hown, hts, hlocks, hnm⟩ ls hl hP hK hE
  have hown : s.vm.findClass RX5 = some m.cls := hown
  have hl : lv_has ls 3 [(0, .ref uA), (1, .int pic), (2, .int (nI kk))] := hl
  have hTT := hT
  obtain ⟨hW0, hW5, hR0, hR6, hn4, hc6, hWR⟩ := hTT
  refine lv_iconst (v := 5) hx hb dX5_sight_0 (by decide) ?_
  refine lv_iload_n hx hb dX5_sight_1 rfl (lv_at hl 1 rfl) ?_
  refine lv_iload_n hx hb dX5_sight_2 rfl (lv_at hl 2 rfl) ?_
  refine lv_ishr hx hb dX5_sight_3 ?_
  refine lv_iconst (v := 1) hx hb dX5_sight_4 (by decide) ?_
  refine lv_iand hx hb dX5_sight_5 ?_
  refine zr_val (congrArg Value.int (z_b1 _)) ?_
  refine W.eq (g2 := F0 m 6 ls [.int (nI (((pic >>> ((nI kk) &&& 31)) &&& 1).toNatClampNeg)), .int 5]) rfl ?_
  refine zr_imulN 5 (((pic >>> ((nI kk) &&& 31)) &&& 1).toNatClampNeg) hx hb dX5_sight_6 ?_
  refine lv_iload_n hx hb dX5_sight_7 rfl (lv_at hl 1 rfl) ?_
  refine lv_aload_n hx hb dX5_sight_8 rfl (lv_at hl 0 rfl) ?_
  refine va_get (D := G.1) (ci := 5) (v := .ref tA) (C := RX5) (T := TX5) (N := 8) hx hb hts in_X5 hown hK.1 hP 0 rfl rfl 0 (Nat.le_of_ble_eq_true rfl) (hts _ q372) (fun _ h => h) rfl dX5_sight_9 ?_
  refine va_getN (D := G.1) (ci := 6) (v := .ref tA_be) (C := RX6) (T := TX6) (N := 15) hx hb hts in_X6 hown hK.1 hP 4 rfl rfl 8 (Nat.le_of_ble_eq_true rfl) ((hK.2.1.1 _ (List.mem_of_getElem? (i := 47) rfl)).use rfl) (fun _ h => h) rfl dX5_sight_12 ?_
  refine lv_iload_n hx hb dX5_sight_15 rfl (lv_at hl 2 rfl) ?_
  refine zr_iald kk (v := tbeside kk) hx hb hK hP 5 rfl rfl (Nat.le_of_ble_eq_true rfl) rfl (by omega) rfl dX5_sight_16 ?_
  refine lv_iand hx hb dX5_sight_17 ?_
  refine zr_puS ⟨hx, hb, hml, hown, hts⟩ (mt_bitCountN l (pic &&& (tbeside kk))) (va_cwS 1 hts (lw_S q1091 q854 q155 q855) rfl rfl rfl hd_J10_bitCount.2 ⟨(Nat.le_of_ble_eq_true rfl), (Nat.le_of_ble_eq_true rfl)⟩) rfl hl.1 rfl (Nat.le_of_ble_eq_true rfl) dX5_sight_18 ⟨Nat.le_refl _, Nat.le_refl _⟩ ?_
  refine zr_iaddN (5 * (((pic >>> ((nI kk) &&& 31)) &&& 1).toNatClampNeg)) (zpc (pic &&& (tbeside kk))) hx hb dX5_sight_21 ?_
  have e_ : hf_sight tbeside pic kk = (5 * (((pic >>> ((nI kk) &&& 31)) &&& 1).toNatClampNeg)) + (zpc (pic &&& (tbeside kk))) := by rw [hf_sight]
  exact zr_oi hx hb hr hlocks dX5_sight_22 (congrArg (fun z => Value.int (nI z)) e_)
theorem hf_sight_le {tbeside : Nat → Int32} {pic : Int32} {kk : Nat} (h : zpc (tbeside kk) ≤ 4) : hf_sight tbeside pic kk ≤ 9 := by
  have h1 := z_b1le (pic >>> (nI kk &&& 31))
  have h2 := zpc_and_r pic (tbeside kk)
  unfold hf_sight
  omega
def hf_paint (thouses : Int32) (talways : Int32) (tnever : Int32) (pic : Int32) : Int32 :=
  ((pic &&& (thouses &&& ((talways ||| tnever) ^^^ (-1)))) ||| talways)
theorem hd_X5_paint : yX5_paint.cls = RX5 ∧ yX5_paint.cls ≠ "java/lang/invoke/MethodHandle" ∧ yX5_paint.cls ≠ "java/lang/invoke/VarHandle" ∧ (parseMethodDescriptor yX5_paint.desc).map (fun d => d.parameters.length) = some 1 := by decide +kernel
set_option maxHeartbeats 4000000 in
set_option maxRecDepth 100000 in
theorem mt_hf_paint (l : Launch) (G : zG) (uA : Nat) (tA : Nat) (uA_bo : Nat) (uA_st : Nat) (uA_se : Nat) (ulit : Int32) (umayor : Int32) (unight : Int32) (uoil : Int32) (uborn : Nat → Int32) (ustays : Nat → Int32) (useen : Nat → Int32) (tA_be : Nat) (tA_le : Nat) (tA_mo : Nat) (tA_rn : Nat) (tA_cn : Nat) (tA_bo : Nat) (tA_st : Nat) (Wd : Nat) (R : Nat) (thouses : Int32) (talways : Int32) (tnever : Int32) (nr : Nat) (nc : Nat) (tring : Bool) (tbeside : Nat → Int32) (tleast : Nat → Int32) (tmost : Nat → Int32) (trnames : Nat → Int64) (pic : Int32) (hT : tOK Wd R nr nc) (sz : Nat) : Met l yX5_paint (ws_ yX5_paint cX5_paint 2 none) (zR 3 0 0) (zPm G sz [.ref uA, .int pic] ((hW G uA tA uA_bo uA_st uA_se ulit umayor unight uoil uborn ustays useen) ++ (tW G tA tA_be tA_le tA_mo tA_rn tA_cn tA_bo tA_st (nI Wd) (nI R) thouses talways tnever (nI nr) (nI nc) tring tbeside tleast tmost trnames))) (zQm G (True) none ((hW G uA tA uA_bo uA_st uA_se (hf_paint thouses talways tnever pic) umayor unight uoil uborn ustays useen) ++ (tW G tA tA_be tA_le tA_mo tA_rn tA_cn tA_bo tA_st (nI Wd) (nI R) thouses talways tnever (nI nr) (nI nc) tring tbeside tleast tmost trnames)) (va_A ((hW G uA tA uA_bo uA_st uA_se ulit umayor unight uoil uborn ustays useen) ++ (tW G tA tA_be tA_le tA_mo tA_rn tA_cn tA_bo tA_st (nI Wd) (nI R) thouses talways tnever (nI nr) (nI nc) tring tbeside tleast tmost trnames)) sz)) 0 0 (va_A ((hW G uA tA uA_bo uA_st uA_se ulit umayor unight uoil uborn ustays useen) ++ (tW G tA tA_be tA_le tA_mo tA_rn tA_cn tA_bo tA_st (nI Wd) (nI R) thouses talways tnever (nI nr) (nI nc) tring tbeside tleast tmost trnames)) sz) := by
  refine zr_entM (by decide) (Nat.le_of_ble_eq_true rfl) ?_
  intro p e s m below meth c ⟨hx, hb, hr, hml, hown, hts, hlocks, hnm⟩ ls hl hP hK A hE hA hD hS
  have hown : s.vm.findClass RX5 = some m.cls := hown
  have hl : lv_has ls 2 [(0, .ref uA), (1, .int pic)] := hl
  obtain ⟨H, hH⟩ : ∃ H, H = s.heap := ⟨_, rfl⟩
  obtain ⟨locs, hlo⟩ : ∃ L : List Loc, L = [] := ⟨_, rfl⟩
  rw [← hH] at hP
  have hS : va_S A s.heap H locs := by rw [hH, hlo]; exact va_S.rf
  have hgo : W p l e (zR 3 0 0) s m ([.ref uA, .int pic] : List Value).toArray below meth c H locs 0 0 (MQ below (zQm G (True) none ((hW G uA tA uA_bo uA_st uA_se (hf_paint thouses talways tnever pic) umayor unight uoil uborn ustays useen) ++ (tW G tA tA_be tA_le tA_mo tA_rn tA_cn tA_bo tA_st (nI Wd) (nI R) thouses talways tnever (nI nr) (nI nc) tring tbeside tleast tmost trnames)) A) ([.ref uA, .int pic] : List Value).toArray s 0 0 A) (F0 m 0 ls []) := ?_
  · rw [hH, hlo] at hgo; exact hgo
  clear hH hlo
  have hTT := hT
  obtain ⟨hW0, hW5, hR0, hR6, hn4, hc6, hWR⟩ := hTT
  refine lv_aload_n hx hb dX5_paint_0 rfl (lv_at hl 0 rfl) ?_
  refine lv_iload_n hx hb dX5_paint_1 rfl (lv_at hl 1 rfl) ?_
  refine lv_aload_n hx hb dX5_paint_2 rfl (lv_at hl 0 rfl) ?_
  refine va_get (D := G.1) (ci := 5) (v := .ref tA) (C := RX5) (T := TX5) (N := 8) hx hb hts in_X5 hown hK.1 hP 0 rfl rfl 0 (Nat.le_of_ble_eq_true rfl) (hts _ q372) (fun _ h => h) rfl dX5_paint_3 ?_
  refine zr_obV ⟨hx, hb, hml, hown, hts⟩ (mt_tf_free l G tA tA_be tA_le tA_mo tA_rn tA_cn tA_bo tA_st Wd R thouses talways tnever (nI nr) (nI nc) tring tbeside tleast tmost trnames) (cwV 0 hts (lw_V q1044 q1028 q1029 q143 q1030) rfl rfl rfl hd_X6_free ⟨(Nat.le_of_ble_eq_true rfl), (Nat.le_of_ble_eq_true rfl)⟩) (zP_sub hP (ws' := (tW G tA tA_be tA_le tA_mo tA_rn tA_cn tA_bo tA_st (nI Wd) (nI R) thouses talways tnever (nI nr) (nI nc) tring tbeside tleast tmost trnames)) [4, 5, 6, 7, 8] rfl) hK (zE_o hE hS) 0 6 rfl rfl rfl hl.1 rfl (Nat.le_of_ble_eq_true rfl) dX5_paint_6 ⟨Nat.le_refl _, Nat.le_refl _⟩ ?_
  refine lv_iand hx hb dX5_paint_9 ?_
  refine lv_aload_n hx hb dX5_paint_10 rfl (lv_at hl 0 rfl) ?_
  refine va_get (D := G.1) (ci := 5) (v := .ref tA) (C := RX5) (T := TX5) (N := 8) hx hb hts in_X5 hown hK.1 hP 0 rfl rfl 0 (Nat.le_of_ble_eq_true rfl) (hts _ q372) (fun _ h => h) rfl dX5_paint_11 ?_
  refine va_getN (D := G.1) (ci := 6) (v := .int talways) (C := RX6) (T := TX6) (N := 15) hx hb hts in_X6 hown hK.1 hP 4 rfl rfl 3 (Nat.le_of_ble_eq_true rfl) ((hK.2.1.1 _ (List.mem_of_getElem? (i := 46) rfl)).use rfl) (fun _ h => h) rfl dX5_paint_14 ?_
  refine lv_ior hx hb dX5_paint_17 ?_
  refine va_put (D := G.1) (ci := 5) (v := .int ((pic &&& (thouses &&& ((talways ||| tnever) ^^^ (-1)))) ||| talways)) (ty := .int) (C := RX5) (T := TX5) (N := 8) hx hb hts in_X5 tyX5 tyX5_ok nmX5 hown hK.1 hP hD hS 0 rfl rfl 4 (Nat.le_of_ble_eq_true rfl) (hts _ q382) (fun _ h => h) rfl (tyX5_ok 4 (Nat.le_of_ble_eq_true rfl)) rfl rfl (Nat.le_of_ble_eq_true rfl) dX5_paint_18 (fun H locs hP hD hS => ?_)
  have hP : va_P G.1 zcl ((hW G uA tA uA_bo uA_st uA_se ((pic &&& (thouses &&& ((talways ||| tnever) ^^^ (-1)))) ||| talways) umayor unight uoil uborn ustays useen) ++ (tW G tA tA_be tA_le tA_mo tA_rn tA_cn tA_bo tA_st (nI Wd) (nI R) thouses talways tnever (nI nr) (nI nc) tring tbeside tleast tmost trnames)) H := hP
  have hD : va_D A ((hW G uA tA uA_bo uA_st uA_se ((pic &&& (thouses &&& ((talways ||| tnever) ^^^ (-1)))) ||| talways) umayor unight uoil uborn ustays useen) ++ (tW G tA tA_be tA_le tA_mo tA_rn tA_cn tA_bo tA_st (nI Wd) (nI R) thouses talways tnever (nI nr) (nI nc) tring tbeside tleast tmost trnames)) := hD
  have e_ : hf_paint thouses talways tnever pic = (pic &&& (thouses &&& ((talways ||| tnever) ^^^ (-1)))) ||| talways := by rw [hf_paint]
  exact zr_mv hx hb hr hlocks hP hD hS dX5_paint_21 rfl (by rw [e_]) trivial
def hf_outside (tleast : Nat → Int32) (tmost : Nat → Int32) (ci : Nat) (many : Nat) : Int32 :=
  (zmax 0 (zmax ((tleast ci) - (nI many)) ((nI many) - (tmost ci))))
theorem hd_X5_outside : yX5_outside.cls = RX5 ∧ yX5_outside.cls ≠ "java/lang/invoke/MethodHandle" ∧ yX5_outside.cls ≠ "java/lang/invoke/VarHandle" ∧ (parseMethodDescriptor yX5_outside.desc).map (fun d => d.parameters.length) = some 2 := by decide +kernel
set_option maxHeartbeats 4000000 in
set_option maxRecDepth 100000 in
theorem mt_hf_outside (l : Launch) (G : zG) (uA : Nat) (tA : Nat) (uA_bo : Nat) (uA_st : Nat) (uA_se : Nat) (ulit : Int32) (umayor : Int32) (unight : Int32) (uoil : Int32) (uborn : Nat → Int32) (ustays : Nat → Int32) (useen : Nat → Int32) (tA_be : Nat) (tA_le : Nat) (tA_mo : Nat) (tA_rn : Nat) (tA_cn : Nat) (tA_bo : Nat) (tA_st : Nat) (Wd : Nat) (R : Nat) (thouses : Int32) (talways : Int32) (tnever : Int32) (nr : Nat) (nc : Nat) (tring : Bool) (tbeside : Nat → Int32) (tleast : Nat → Int32) (tmost : Nat → Int32) (trnames : Nat → Int64) (ci : Nat) (many : Nat) (hT : tOK Wd R nr nc) (hci : ci < 6) : Met l yX5_outside (ws_ yX5_outside cX5_outside 3 (some .int)) (zR 2 0 0) (zPo G [.ref uA, .int (nI ci), .int (nI many)] ((hW G uA tA uA_bo uA_st uA_se ulit umayor unight uoil uborn ustays useen) ++ (tW G tA tA_be tA_le tA_mo tA_rn tA_cn tA_bo tA_st (nI Wd) (nI R) thouses talways tnever (nI nr) (nI nc) tring tbeside tleast tmost trnames))) (k2_QcV (.int (hf_outside tleast tmost ci many))) 0 0 (fun _ => False) := by
  refine zr_entO (by decide) (Nat.le_of_ble_eq_true rfl) ?_
  intro p e s m below meth c ⟨hx, hb, hr, hml, hown, hts, hlocks, hnm⟩ ls hl hP hK hE
  have hown : s.vm.findClass RX5 = some m.cls := hown
  have hl : lv_has ls 3 [(0, .ref uA), (1, .int (nI ci)), (2, .int (nI many))] := hl
  have hTT := hT
  obtain ⟨hW0, hW5, hR0, hR6, hn4, hc6, hWR⟩ := hTT
  refine lv_iconst (v := 0) hx hb dX5_outside_0 (by decide) ?_
  refine lv_aload_n hx hb dX5_outside_1 rfl (lv_at hl 0 rfl) ?_
  refine va_get (D := G.1) (ci := 5) (v := .ref tA) (C := RX5) (T := TX5) (N := 8) hx hb hts in_X5 hown hK.1 hP 0 rfl rfl 0 (Nat.le_of_ble_eq_true rfl) (hts _ q372) (fun _ h => h) rfl dX5_outside_2 ?_
  refine va_getN (D := G.1) (ci := 6) (v := .ref tA_le) (C := RX6) (T := TX6) (N := 15) hx hb hts in_X6 hown hK.1 hP 4 rfl rfl 9 (Nat.le_of_ble_eq_true rfl) ((hK.2.1.1 _ (List.mem_of_getElem? (i := 48) rfl)).use rfl) (fun _ h => h) rfl dX5_outside_5 ?_
  refine lv_iload_n hx hb dX5_outside_8 rfl (lv_at hl 1 rfl) ?_
  refine zr_iald ci (v := tleast ci) hx hb hK hP 6 rfl rfl (Nat.le_of_ble_eq_true rfl) rfl (by omega) rfl dX5_outside_9 ?_
  refine lv_iload_n hx hb dX5_outside_10 rfl (lv_at hl 2 rfl) ?_
  refine lv_isub hx hb dX5_outside_11 ?_
  refine lv_iload_n hx hb dX5_outside_12 rfl (lv_at hl 2 rfl) ?_
  refine lv_aload_n hx hb dX5_outside_13 rfl (lv_at hl 0 rfl) ?_
  refine va_get (D := G.1) (ci := 5) (v := .ref tA) (C := RX5) (T := TX5) (N := 8) hx hb hts in_X5 hown hK.1 hP 0 rfl rfl 0 (Nat.le_of_ble_eq_true rfl) (hts _ q372) (fun _ h => h) rfl dX5_outside_14 ?_
  refine va_getN (D := G.1) (ci := 6) (v := .ref tA_mo) (C := RX6) (T := TX6) (N := 15) hx hb hts in_X6 hown hK.1 hP 4 rfl rfl 10 (Nat.le_of_ble_eq_true rfl) ((hK.2.1.1 _ (List.mem_of_getElem? (i := 49) rfl)).use rfl) (fun _ h => h) rfl dX5_outside_17 ?_
  refine lv_iload_n hx hb dX5_outside_20 rfl (lv_at hl 1 rfl) ?_
  refine zr_iald ci (v := tmost ci) hx hb hK hP 7 rfl rfl (Nat.le_of_ble_eq_true rfl) rfl (by omega) rfl dX5_outside_21 ?_
  refine lv_isub hx hb dX5_outside_22 ?_
  refine va_mmax (x := (tleast ci) - (nI many)) (y := (nI many) - (tmost ci)) hx hb (hml.trans hl.1.symm) hown (hts _ q1268) (hts _ q1149) (hts _ q156) (hts _ q1150) (Nat.le_of_ble_eq_true rfl) (Nat.le_of_ble_eq_true rfl) (Nat.le_refl _) (Nat.le_refl _) dX5_outside_23 ?_
  refine W.eq (g2 := F0 m 26 ls [.int (zmax ((tleast ci) - (nI many)) ((nI many) - (tmost ci))), .int 0]) rfl ?_
  refine va_mmax (x := 0) (y := zmax ((tleast ci) - (nI many)) ((nI many) - (tmost ci))) hx hb (hml.trans hl.1.symm) hown (hts _ q1268) (hts _ q1149) (hts _ q156) (hts _ q1150) (Nat.le_of_ble_eq_true rfl) (Nat.le_of_ble_eq_true rfl) (Nat.le_refl _) (Nat.le_refl _) dX5_outside_26 ?_
  refine W.eq (g2 := F0 m 29 ls [.int (zmax 0 (zmax ((tleast ci) - (nI many)) ((nI many) - (tmost ci))))]) rfl ?_
  have e_ : hf_outside tleast tmost ci many = zmax 0 (zmax ((tleast ci) - (nI many)) ((nI many) - (tmost ci))) := by rw [hf_outside]
  exact zr_oi hx hb hr hlocks dX5_outside_29 (congrArg Value.int e_)
def hf_night_B11 (ulit : Int32) (umayor : Int32) (uborn : Nat → Int32) (ustays : Nat → Int32) (Wd : Nat) (R : Nat) (thouses : Int32) (talways : Int32) (tnever : Int32) (tbeside : Nat → Int32) (k_1 : Nat) (s_1 : (Nat → Int32)) : (Nat → Int32) :=
  (if (((thouses &&& ((talways ||| tnever) ^^^ (-1))) >>> ((nI k_1) &&& 31)) &&& 1) = 1 then
    (if (((hf_next umayor uborn ustays Wd R thouses talways tnever tbeside ulit) >>> ((nI k_1) &&& 31)) &&& 1) = 1 then
      upd s_1 (hf_sight tbeside ulit k_1) ((s_1 (hf_sight tbeside ulit k_1)) ||| 2)
    else
      upd s_1 (hf_sight tbeside ulit k_1) ((s_1 (hf_sight tbeside ulit k_1)) ||| 1))
  else
    s_1)
def hf_night_L11 (ulit : Int32) (umayor : Int32) (uborn : Nat → Int32) (ustays : Nat → Int32) (Wd : Nat) (R : Nat) (thouses : Int32) (talways : Int32) (tnever : Int32) (tbeside : Nat → Int32) (s_1 : (Nat → Int32)) : (Nat → Int32) := zf (hf_night_B11 ulit umayor uborn ustays Wd R thouses talways tnever tbeside) s_1 (Wd * R)
def hf_night (ulit : Int32) (umayor : Int32) (unight : Int32) (uoil : Int32) (uborn : Nat → Int32) (ustays : Nat → Int32) (useen : Nat → Int32) (Wd : Nat) (R : Nat) (thouses : Int32) (talways : Int32) (tnever : Int32) (tbeside : Nat → Int32) : Int32 × Int32 × Int32 × (Nat → Int32) :=
  zlet (hf_night_L11 ulit umayor uborn ustays Wd R thouses talways tnever tbeside useen) (fun s_1 =>
  (hf_next umayor uborn ustays Wd R thouses talways tnever tbeside ulit, unight + 1, uoil + (nI (zpc ulit)), s_1))
theorem hd_X5_night : yX5_night.cls = RX5 ∧ yX5_night.cls ≠ "java/lang/invoke/MethodHandle" ∧ yX5_night.cls ≠ "java/lang/invoke/VarHandle" ∧ (parseMethodDescriptor yX5_night.desc).map (fun d => d.parameters.length) = some 0 := by decide +kernel
set_option maxHeartbeats 4000000 in
set_option maxRecDepth 100000 in
theorem mt_hf_night (l : Launch) (G : zG) (uA : Nat) (tA : Nat) (uA_bo : Nat) (uA_st : Nat) (uA_se : Nat) (ulit : Int32) (umayor : Int32) (unight : Int32) (uoil : Int32) (uborn : Nat → Int32) (ustays : Nat → Int32) (useen : Nat → Int32) (tA_be : Nat) (tA_le : Nat) (tA_mo : Nat) (tA_rn : Nat) (tA_cn : Nat) (tA_bo : Nat) (tA_st : Nat) (Wd : Nat) (R : Nat) (thouses : Int32) (talways : Int32) (tnever : Int32) (nr : Nat) (nc : Nat) (tring : Bool) (tbeside : Nat → Int32) (tleast : Nat → Int32) (tmost : Nat → Int32) (trnames : Nat → Int64) (hT : tOK Wd R nr nc) (hmy : umayor < 0 ∨ (¬ umayor < 0 ∧ umayor.toNatClampNeg < nr)) (hbe : ∀ k, k < Wd * R → zpc (tbeside k) ≤ 4) (sz : Nat) : Met l yX5_night (ws_ yX5_night cX5_night 3 none) (zR 5 0 0) (zPm G sz [.ref uA] ((hW G uA tA uA_bo uA_st uA_se ulit umayor unight uoil uborn ustays useen) ++ (tW G tA tA_be tA_le tA_mo tA_rn tA_cn tA_bo tA_st (nI Wd) (nI R) thouses talways tnever (nI nr) (nI nc) tring tbeside tleast tmost trnames))) (zQm G (True) none ((hW G uA tA uA_bo uA_st uA_se ((hf_night ulit umayor unight uoil uborn ustays useen Wd R thouses talways tnever tbeside).1) umayor ((hf_night ulit umayor unight uoil uborn ustays useen Wd R thouses talways tnever tbeside).2.1) ((hf_night ulit umayor unight uoil uborn ustays useen Wd R thouses talways tnever tbeside).2.2.1) uborn ustays ((hf_night ulit umayor unight uoil uborn ustays useen Wd R thouses talways tnever tbeside).2.2.2)) ++ (tW G tA tA_be tA_le tA_mo tA_rn tA_cn tA_bo tA_st (nI Wd) (nI R) thouses talways tnever (nI nr) (nI nc) tring tbeside tleast tmost trnames)) (va_A ((hW G uA tA uA_bo uA_st uA_se ulit umayor unight uoil uborn ustays useen) ++ (tW G tA tA_be tA_le tA_mo tA_rn tA_cn tA_bo tA_st (nI Wd) (nI R) thouses talways tnever (nI nr) (nI nc) tring tbeside tleast tmost trnames)) sz)) 0 0 (va_A ((hW G uA tA uA_bo uA_st uA_se ulit umayor unight uoil uborn ustays useen) ++ (tW G tA tA_be tA_le tA_mo tA_rn tA_cn tA_bo tA_st (nI Wd) (nI R) thouses talways tnever (nI nr) (nI nc) tring tbeside tleast tmost trnames)) sz) := by
  refine zr_entM (by decide) (Nat.le_of_ble_eq_true rfl) ?_
  intro p e s m below meth c ⟨hx, hb, hr, hml, hown, hts, hlocks, hnm⟩ ls hl hP hK A hE hA hD hS
  have hown : s.vm.findClass RX5 = some m.cls := hown
  have hl : lv_has ls 3 [(0, .ref uA)] := hl
  obtain ⟨H, hH⟩ : ∃ H, H = s.heap := ⟨_, rfl⟩
  obtain ⟨locs, hlo⟩ : ∃ L : List Loc, L = [] := ⟨_, rfl⟩
  rw [← hH] at hP
  have hS : va_S A s.heap H locs := by rw [hH, hlo]; exact va_S.rf
  have hgo : W p l e (zR 5 0 0) s m ([.ref uA] : List Value).toArray below meth c H locs 0 0 (MQ below (zQm G (True) none ((hW G uA tA uA_bo uA_st uA_se ((hf_night ulit umayor unight uoil uborn ustays useen Wd R thouses talways tnever tbeside).1) umayor ((hf_night ulit umayor unight uoil uborn ustays useen Wd R thouses talways tnever tbeside).2.1) ((hf_night ulit umayor unight uoil uborn ustays useen Wd R thouses talways tnever tbeside).2.2.1) uborn ustays ((hf_night ulit umayor unight uoil uborn ustays useen Wd R thouses talways tnever tbeside).2.2.2)) ++ (tW G tA tA_be tA_le tA_mo tA_rn tA_cn tA_bo tA_st (nI Wd) (nI R) thouses talways tnever (nI nr) (nI nc) tring tbeside tleast tmost trnames)) A) ([.ref uA] : List Value).toArray s 0 0 A) (F0 m 0 ls []) := ?_
  · rw [hH, hlo] at hgo; exact hgo
  clear hH hlo
  have hTT := hT
  obtain ⟨hW0, hW5, hR0, hR6, hn4, hc6, hWR⟩ := hTT
  refine lv_aload_n hx hb dX5_night_0 rfl (lv_at hl 0 rfl) ?_
  refine lv_aload_n hx hb dX5_night_1 rfl (lv_at hl 0 rfl) ?_
  refine va_get (D := G.1) (ci := 5) (v := .int ulit) (C := RX5) (T := TX5) (N := 8) hx hb hts in_X5 hown hK.1 hP 0 rfl rfl 4 (Nat.le_of_ble_eq_true rfl) (hts _ q382) (fun _ h => h) rfl dX5_night_2 ?_
  refine zr_obV ⟨hx, hb, hml, hown, hts⟩ (mt_hf_next l G uA tA uA_bo uA_st uA_se ulit umayor unight uoil uborn ustays useen tA_be tA_le tA_mo tA_rn tA_cn tA_bo tA_st Wd R thouses talways tnever nr nc tring tbeside tleast tmost trnames ulit hT hmy) (cwV 1 hts (lw_V q1079 q1080 q1081 q142 q1082) rfl rfl rfl hd_X5_next ⟨(Nat.le_of_ble_eq_true rfl), (Nat.le_of_ble_eq_true rfl)⟩) hP hK (zE_o hE hS) 0 5 rfl rfl rfl hl.1 rfl (Nat.le_of_ble_eq_true rfl) dX5_night_5 ⟨Nat.le_refl _, Nat.le_refl _⟩ ?_
  refine lv_istore_n (lv' := [(1, .int (hf_next umayor uborn ustays Wd R thouses talways tnever tbeside ulit)), (0, .ref uA)]) hx hb dX5_night_8 rfl hl (by decide) rfl (fun ls hl => ?_)
  refine lv_iconst (v := 0) hx hb dX5_night_9 (by decide) ?_
  refine lv_istore_n (lv' := [(2, .int 0), (1, .int (hf_next umayor uborn ustays Wd R thouses talways tnever tbeside ulit)), (0, .ref uA)]) hx hb dX5_night_10 rfl hl (by decide) rfl (fun ls hl => ?_)
  have hlp_1 : ∀ (n k_1 : Nat) (s_1 : (Nat → Int32)), k_1 ≤ Wd * R → Wd * R < k_1 + n → zf (hf_night_B11 ulit umayor uborn ustays Wd R thouses talways tnever tbeside) useen k_1 = s_1 → ∀ (H : Heap) (locs : List Loc), va_P G.1 zcl ((hW G uA tA uA_bo uA_st uA_se ulit umayor unight uoil uborn ustays s_1) ++ (tW G tA tA_be tA_le tA_mo tA_rn tA_cn tA_bo tA_st (nI Wd) (nI R) thouses talways tnever (nI nr) (nI nc) tring tbeside tleast tmost trnames)) H → va_D A ((hW G uA tA uA_bo uA_st uA_se ulit umayor unight uoil uborn ustays s_1) ++ (tW G tA tA_be tA_le tA_mo tA_rn tA_cn tA_bo tA_st (nI Wd) (nI R) thouses talways tnever (nI nr) (nI nc) tring tbeside tleast tmost trnames)) → va_S A s.heap H locs → ∀ ls : Array Slot, lv_has ls 3 [(2, .int (nI k_1)), (1, .int (hf_next umayor uborn ustays Wd R thouses talways tnever tbeside ulit)), (0, .ref uA)] → W p l e (zR 5 0 0) s m ([.ref uA] : List Value).toArray below meth c H locs 0 0 (MQ below (zQm G (True) none ((hW G uA tA uA_bo uA_st uA_se ((hf_night ulit umayor unight uoil uborn ustays useen Wd R thouses talways tnever tbeside).1) umayor ((hf_night ulit umayor unight uoil uborn ustays useen Wd R thouses talways tnever tbeside).2.1) ((hf_night ulit umayor unight uoil uborn ustays useen Wd R thouses talways tnever tbeside).2.2.1) uborn ustays ((hf_night ulit umayor unight uoil uborn ustays useen Wd R thouses talways tnever tbeside).2.2.2)) ++ (tW G tA tA_be tA_le tA_mo tA_rn tA_cn tA_bo tA_st (nI Wd) (nI R) thouses talways tnever (nI nr) (nI nc) tring tbeside tleast tmost trnames)) A) ([.ref uA] : List Value).toArray s 0 0 A) (F0 m 11 ls []) := by
    intro n
    induction n with
    | zero => intro k_1 s_1 h1 h2; exact absurd h2 (by omega)
    | succ n ih_1 =>
      intro k_1 s_1 hk_1 hn_1 hst_1 H locs hP hD hS ls hl
      refine lv_iload_n hx hb dX5_night_11 rfl (lv_at hl 0 rfl) ?_
      refine lv_aload_n hx hb dX5_night_12 rfl (lv_at hl 2 rfl) ?_
      refine va_get (D := G.1) (ci := 5) (v := .ref tA) (C := RX5) (T := TX5) (N := 8) hx hb hts in_X5 hown hK.1 hP 0 rfl rfl 0 (Nat.le_of_ble_eq_true rfl) (hts _ q372) (fun _ h => h) rfl dX5_night_13 ?_
      refine zr_obV ⟨hx, hb, hml, hown, hts⟩ (mt_tf_cells l G tA tA_be tA_le tA_mo tA_rn tA_cn tA_bo tA_st Wd R thouses talways tnever (nI nr) (nI nc) tring tbeside tleast tmost trnames) (cwV 0 hts (lw_V q1087 q1088 q1089 q143 q1090) rfl rfl rfl hd_X6_cells ⟨(Nat.le_of_ble_eq_true rfl), (Nat.le_of_ble_eq_true rfl)⟩) (zP_sub hP (ws' := (tW G tA tA_be tA_le tA_mo tA_rn tA_cn tA_bo tA_st (nI Wd) (nI R) thouses talways tnever (nI nr) (nI nc) tring tbeside tleast tmost trnames)) [4, 5, 6, 7, 8] rfl) hK (zE_o hE hS) 0 6 rfl rfl rfl hl.1 rfl (Nat.le_of_ble_eq_true rfl) dX5_night_16 ⟨Nat.le_refl _, Nat.le_refl _⟩ ?_
      refine zr_ge k_1 (Wd * R) (by omega) (by omega) (tgt := 74) hx hb dX5_night_19 (by decide) (fun c_1 => ?_) (fun c_1 => ?_)
      · have ek_1 : k_1 = Wd * R := Nat.le_antisymm hk_1 c_1
        have hs_1 : hf_night_L11 ulit umayor uborn ustays Wd R thouses talways tnever tbeside useen = s_1 := by rw [ek_1] at hst_1; exact hst_1
        have hl := lv_sub hl (l' := _) [1, 2] rfl
        refine lv_aload_n hx hb dX5_night_74 rfl (lv_at hl 1 rfl) ?_
        refine lv_dup hx hb dX5_night_75 rfl ?_
        refine va_get (D := G.1) (ci := 5) (v := .int uoil) (C := RX5) (T := TX5) (N := 8) hx hb hts in_X5 hown hK.1 hP 0 rfl rfl 7 (Nat.le_of_ble_eq_true rfl) (hts _ q390) (fun _ h => h) rfl dX5_night_76 ?_
        refine lv_aload_n hx hb dX5_night_79 rfl (lv_at hl 1 rfl) ?_
        refine va_get (D := G.1) (ci := 5) (v := .int ulit) (C := RX5) (T := TX5) (N := 8) hx hb hts in_X5 hown hK.1 hP 0 rfl rfl 4 (Nat.le_of_ble_eq_true rfl) (hts _ q382) (fun _ h => h) rfl dX5_night_80 ?_
        refine zr_puS ⟨hx, hb, hml, hown, hts⟩ (mt_bitCountN l ulit) (va_cwS 1 hts (lw_S q1091 q854 q155 q855) rfl rfl rfl hd_J10_bitCount.2 ⟨(Nat.le_of_ble_eq_true rfl), (Nat.le_of_ble_eq_true rfl)⟩) rfl hl.1 rfl (Nat.le_of_ble_eq_true rfl) dX5_night_83 ⟨Nat.le_refl _, Nat.le_refl _⟩ ?_
        refine lv_iadd hx hb dX5_night_86 ?_
        refine va_put (D := G.1) (ci := 5) (v := .int (uoil + (nI (zpc ulit)))) (ty := .int) (C := RX5) (T := TX5) (N := 8) hx hb hts in_X5 tyX5 tyX5_ok nmX5 hown hK.1 hP hD hS 0 rfl rfl 7 (Nat.le_of_ble_eq_true rfl) (hts _ q390) (fun _ h => h) rfl (tyX5_ok 7 (Nat.le_of_ble_eq_true rfl)) rfl rfl (Nat.le_of_ble_eq_true rfl) dX5_night_87 (fun H locs hP hD hS => ?_)
        have hP : va_P G.1 zcl ((hW G uA tA uA_bo uA_st uA_se ulit umayor unight (uoil + (nI (zpc ulit))) uborn ustays s_1) ++ (tW G tA tA_be tA_le tA_mo tA_rn tA_cn tA_bo tA_st (nI Wd) (nI R) thouses talways tnever (nI nr) (nI nc) tring tbeside tleast tmost trnames)) H := hP
        have hD : va_D A ((hW G uA tA uA_bo uA_st uA_se ulit umayor unight (uoil + (nI (zpc ulit))) uborn ustays s_1) ++ (tW G tA tA_be tA_le tA_mo tA_rn tA_cn tA_bo tA_st (nI Wd) (nI R) thouses talways tnever (nI nr) (nI nc) tring tbeside tleast tmost trnames)) := hD
        refine lv_aload_n hx hb dX5_night_90 rfl (lv_at hl 1 rfl) ?_
        refine lv_dup hx hb dX5_night_91 rfl ?_
        refine va_get (D := G.1) (ci := 5) (v := .int unight) (C := RX5) (T := TX5) (N := 8) hx hb hts in_X5 hown hK.1 hP 0 rfl rfl 6 (Nat.le_of_ble_eq_true rfl) (hts _ q388) (fun _ h => h) rfl dX5_night_92 ?_
        refine lv_iconst (v := 1) hx hb dX5_night_95 (by decide) ?_
        refine lv_iadd hx hb dX5_night_96 ?_
        refine va_put (D := G.1) (ci := 5) (v := .int (unight + 1)) (ty := .int) (C := RX5) (T := TX5) (N := 8) hx hb hts in_X5 tyX5 tyX5_ok nmX5 hown hK.1 hP hD hS 0 rfl rfl 6 (Nat.le_of_ble_eq_true rfl) (hts _ q388) (fun _ h => h) rfl (tyX5_ok 6 (Nat.le_of_ble_eq_true rfl)) rfl rfl (Nat.le_of_ble_eq_true rfl) dX5_night_97 (fun H locs hP hD hS => ?_)
        have hP : va_P G.1 zcl ((hW G uA tA uA_bo uA_st uA_se ulit umayor (unight + 1) (uoil + (nI (zpc ulit))) uborn ustays s_1) ++ (tW G tA tA_be tA_le tA_mo tA_rn tA_cn tA_bo tA_st (nI Wd) (nI R) thouses talways tnever (nI nr) (nI nc) tring tbeside tleast tmost trnames)) H := hP
        have hD : va_D A ((hW G uA tA uA_bo uA_st uA_se ulit umayor (unight + 1) (uoil + (nI (zpc ulit))) uborn ustays s_1) ++ (tW G tA tA_be tA_le tA_mo tA_rn tA_cn tA_bo tA_st (nI Wd) (nI R) thouses talways tnever (nI nr) (nI nc) tring tbeside tleast tmost trnames)) := hD
        refine lv_aload_n hx hb dX5_night_100 rfl (lv_at hl 1 rfl) ?_
        refine lv_iload_n hx hb dX5_night_101 rfl (lv_at hl 0 rfl) ?_
        refine va_put (D := G.1) (ci := 5) (v := .int (hf_next umayor uborn ustays Wd R thouses talways tnever tbeside ulit)) (ty := .int) (C := RX5) (T := TX5) (N := 8) hx hb hts in_X5 tyX5 tyX5_ok nmX5 hown hK.1 hP hD hS 0 rfl rfl 4 (Nat.le_of_ble_eq_true rfl) (hts _ q382) (fun _ h => h) rfl (tyX5_ok 4 (Nat.le_of_ble_eq_true rfl)) rfl rfl (Nat.le_of_ble_eq_true rfl) dX5_night_102 (fun H locs hP hD hS => ?_)
        have hP : va_P G.1 zcl ((hW G uA tA uA_bo uA_st uA_se (hf_next umayor uborn ustays Wd R thouses talways tnever tbeside ulit) umayor (unight + 1) (uoil + (nI (zpc ulit))) uborn ustays s_1) ++ (tW G tA tA_be tA_le tA_mo tA_rn tA_cn tA_bo tA_st (nI Wd) (nI R) thouses talways tnever (nI nr) (nI nc) tring tbeside tleast tmost trnames)) H := hP
        have hD : va_D A ((hW G uA tA uA_bo uA_st uA_se (hf_next umayor uborn ustays Wd R thouses talways tnever tbeside ulit) umayor (unight + 1) (uoil + (nI (zpc ulit))) uborn ustays s_1) ++ (tW G tA tA_be tA_le tA_mo tA_rn tA_cn tA_bo tA_st (nI Wd) (nI R) thouses talways tnever (nI nr) (nI nc) tring tbeside tleast tmost trnames)) := hD
        have e_ : hf_night ulit umayor unight uoil uborn ustays useen Wd R thouses talways tnever tbeside = (hf_next umayor uborn ustays Wd R thouses talways tnever tbeside ulit, unight + 1, uoil + (nI (zpc ulit)), s_1) := by rw [hf_night, zlet_eq hs_1]
        exact zr_mv hx hb hr hlocks hP hD hS dX5_night_105 rfl (by rw [e_]) trivial
      · have hlt_1 : k_1 < Wd * R := Nat.lt_of_not_le c_1
        refine lv_aload_n hx hb dX5_night_22 rfl (lv_at hl 2 rfl) ?_
        refine va_get (D := G.1) (ci := 5) (v := .ref tA) (C := RX5) (T := TX5) (N := 8) hx hb hts in_X5 hown hK.1 hP 0 rfl rfl 0 (Nat.le_of_ble_eq_true rfl) (hts _ q372) (fun _ h => h) rfl dX5_night_23 ?_
        refine zr_obV ⟨hx, hb, hml, hown, hts⟩ (mt_tf_free l G tA tA_be tA_le tA_mo tA_rn tA_cn tA_bo tA_st Wd R thouses talways tnever (nI nr) (nI nc) tring tbeside tleast tmost trnames) (cwV 0 hts (lw_V q1044 q1028 q1029 q143 q1030) rfl rfl rfl hd_X6_free ⟨(Nat.le_of_ble_eq_true rfl), (Nat.le_of_ble_eq_true rfl)⟩) (zP_sub hP (ws' := (tW G tA tA_be tA_le tA_mo tA_rn tA_cn tA_bo tA_st (nI Wd) (nI R) thouses talways tnever (nI nr) (nI nc) tring tbeside tleast tmost trnames)) [4, 5, 6, 7, 8] rfl) hK (zE_o hE hS) 0 6 rfl rfl rfl hl.1 rfl (Nat.le_of_ble_eq_true rfl) dX5_night_26 ⟨Nat.le_refl _, Nat.le_refl _⟩ ?_
        refine lv_iload_n hx hb dX5_night_29 rfl (lv_at hl 0 rfl) ?_
        refine lv_ishr hx hb dX5_night_30 ?_
        refine lv_iconst (v := 1) hx hb dX5_night_31 (by decide) ?_
        refine lv_iand hx hb dX5_night_32 ?_
        refine lv_iconst (v := 1) hx hb dX5_night_33 (by decide) ?_
        refine lv_icmp_ne (tgt := 68) hx hb dX5_night_34 (by decide) (fun c_2 => ?_) (fun c_2 => ?_)
        · refine lv_iinc (v := nI (k_1 + 1)) (lv' := [(2, .int (nI (k_1 + 1))), (1, .int (hf_next umayor uborn ustays Wd R thouses talways tnever tbeside ulit)), (0, .ref uA)]) hx hb dX5_night_68 hl (k := 0) rfl (nI_add k_1 1) (by decide) rfl (fun ls hl => ?_)
          refine lv_goto (tgt := 11) hx hb dX5_night_71 (by decide) ?_
          exact ih_1 (k_1 + 1) s_1 hlt_1 (by omega) (zf_s hst_1 (by rw [hf_night_B11, if_neg c_2])) H locs hP hD hS ls (lv_sub hl [0, 1, 2] rfl)
        · refine lv_aload_n hx hb dX5_night_37 rfl (lv_at hl 2 rfl) ?_
          refine va_get (D := G.1) (ci := 5) (v := .ref uA_se) (C := RX5) (T := TX5) (N := 8) hx hb hts in_X5 hown hK.1 hP 0 rfl rfl 3 (Nat.le_of_ble_eq_true rfl) (hts _ q379) (fun _ h => h) rfl dX5_night_38 ?_
          refine lv_aload_n hx hb dX5_night_41 rfl (lv_at hl 2 rfl) ?_
          refine lv_aload_n hx hb dX5_night_42 rfl (lv_at hl 2 rfl) ?_
          refine va_get (D := G.1) (ci := 5) (v := .int ulit) (C := RX5) (T := TX5) (N := 8) hx hb hts in_X5 hown hK.1 hP 0 rfl rfl 4 (Nat.le_of_ble_eq_true rfl) (hts _ q382) (fun _ h => h) rfl dX5_night_43 ?_
          refine lv_iload_n hx hb dX5_night_46 rfl (lv_at hl 0 rfl) ?_
          refine zr_obV ⟨hx, hb, hml, hown, hts⟩ (mt_hf_sight l G uA tA uA_bo uA_st uA_se ulit umayor unight uoil uborn ustays s_1 tA_be tA_le tA_mo tA_rn tA_cn tA_bo tA_st Wd R thouses talways tnever nr nc tring tbeside tleast tmost trnames ulit k_1 hT (by first | assumption | exact hkk | omega)) (cwV 2 hts (lw_V q1096 q1097 q1098 q142 q1099) rfl rfl rfl hd_X5_sight ⟨(Nat.le_of_ble_eq_true rfl), (Nat.le_of_ble_eq_true rfl)⟩) hP hK (zE_o hE hS) 0 5 rfl rfl rfl hl.1 rfl (Nat.le_of_ble_eq_true rfl) dX5_night_47 ⟨Nat.le_refl _, Nat.le_refl _⟩ ?_
          have hsg : (hf_sight tbeside ulit k_1) ≤ 9 := hf_sight_le (hbe _ (by omega))
          refine lv_dup2_11 hx hb dX5_night_50 rfl rfl ?_
          refine zr_iald (hf_sight tbeside ulit k_1) (v := s_1 (hf_sight tbeside ulit k_1)) hx hb hK hP 3 rfl rfl (Nat.le_of_ble_eq_true rfl) rfl (by omega) rfl dX5_night_51 ?_
          refine lv_iload_n hx hb dX5_night_52 rfl (lv_at hl 1 rfl) ?_
          refine lv_iload_n hx hb dX5_night_53 rfl (lv_at hl 0 rfl) ?_
          refine lv_ishr hx hb dX5_night_54 ?_
          refine lv_iconst (v := 1) hx hb dX5_night_55 (by decide) ?_
          refine lv_iand hx hb dX5_night_56 ?_
          refine lv_iconst (v := 1) hx hb dX5_night_57 (by decide) ?_
          refine lv_icmp_ne (tgt := 65) hx hb dX5_night_58 (by decide) (fun c_3 => ?_) (fun c_3 => ?_)
          · refine lv_iconst (v := 1) hx hb dX5_night_65 (by decide) ?_
            refine lv_ior hx hb dX5_night_66 ?_
            refine zr_iast (hf_sight tbeside ulit k_1) (ws' := ((hW G uA tA uA_bo uA_st uA_se ulit umayor unight uoil uborn ustays (upd s_1 (hf_sight tbeside ulit k_1) ((s_1 (hf_sight tbeside ulit k_1)) ||| 1))) ++ (tW G tA tA_be tA_le tA_mo tA_rn tA_cn tA_bo tA_st (nI Wd) (nI R) thouses talways tnever (nI nr) (nI nc) tring tbeside tleast tmost trnames))) hx hb hK hP hD hS 3 rfl rfl (Nat.le_of_ble_eq_true rfl) rfl (by omega) rfl dX5_night_67 (fun H locs hP hD hS => ?_)
            refine lv_iinc (v := nI (k_1 + 1)) (lv' := [(2, .int (nI (k_1 + 1))), (1, .int (hf_next umayor uborn ustays Wd R thouses talways tnever tbeside ulit)), (0, .ref uA)]) hx hb dX5_night_68 hl (k := 0) rfl (nI_add k_1 1) (by decide) rfl (fun ls hl => ?_)
            refine lv_goto (tgt := 11) hx hb dX5_night_71 (by decide) ?_
            exact ih_1 (k_1 + 1) (upd s_1 (hf_sight tbeside ulit k_1) ((s_1 (hf_sight tbeside ulit k_1)) ||| 1)) hlt_1 (by omega) (zf_s hst_1 (by rw [hf_night_B11, if_pos c_2, if_neg c_3])) H locs hP hD hS ls (lv_sub hl [0, 1, 2] rfl)
          · refine lv_iconst (v := 2) hx hb dX5_night_61 (by decide) ?_
            refine lv_goto (tgt := 66) hx hb dX5_night_62 (by decide) ?_
            refine lv_ior hx hb dX5_night_66 ?_
            refine zr_iast (hf_sight tbeside ulit k_1) (ws' := ((hW G uA tA uA_bo uA_st uA_se ulit umayor unight uoil uborn ustays (upd s_1 (hf_sight tbeside ulit k_1) ((s_1 (hf_sight tbeside ulit k_1)) ||| 2))) ++ (tW G tA tA_be tA_le tA_mo tA_rn tA_cn tA_bo tA_st (nI Wd) (nI R) thouses talways tnever (nI nr) (nI nc) tring tbeside tleast tmost trnames))) hx hb hK hP hD hS 3 rfl rfl (Nat.le_of_ble_eq_true rfl) rfl (by omega) rfl dX5_night_67 (fun H locs hP hD hS => ?_)
            refine lv_iinc (v := nI (k_1 + 1)) (lv' := [(2, .int (nI (k_1 + 1))), (1, .int (hf_next umayor uborn ustays Wd R thouses talways tnever tbeside ulit)), (0, .ref uA)]) hx hb dX5_night_68 hl (k := 0) rfl (nI_add k_1 1) (by decide) rfl (fun ls hl => ?_)
            refine lv_goto (tgt := 11) hx hb dX5_night_71 (by decide) ?_
            exact ih_1 (k_1 + 1) (upd s_1 (hf_sight tbeside ulit k_1) ((s_1 (hf_sight tbeside ulit k_1)) ||| 2)) hlt_1 (by omega) (zf_s hst_1 (by rw [hf_night_B11, if_pos c_2, if_pos c_3])) H locs hP hD hS ls (lv_sub hl [0, 1, 2] rfl)
  exact hlp_1 ((Wd * R) + 1) 0 useen (Nat.zero_le _) (by omega) rfl H locs hP hD hS ls (lv_sub hl [0, 1, 2] rfl)
def hf_vote_B7 (ulit : Int32) (uborn : Nat → Int32) (ustays : Nat → Int32) (Wd : Nat) (R : Nat) (thouses : Int32) (talways : Int32) (tnever : Int32) (nr : Nat) (tbeside : Nat → Int32) (tleast : Nat → Int32) (tmost : Nat → Int32) (ci : Nat) (k_1 : Nat) (s_1 : Int32 × Int32) : Int32 × Int32 :=
  (if s_1.2 < 0 then
    (hf_outside tleast tmost ci (zpc (hf_nextBy uborn ustays Wd R thouses talways tnever tbeside (nI k_1) ulit)), nI k_1)
  else
    (if (hf_outside tleast tmost ci (zpc (hf_nextBy uborn ustays Wd R thouses talways tnever tbeside (nI k_1) ulit))) < s_1.1 then
      (hf_outside tleast tmost ci (zpc (hf_nextBy uborn ustays Wd R thouses talways tnever tbeside (nI k_1) ulit)), nI k_1)
    else
      (s_1.1, s_1.2)))
def hf_vote_L7 (ulit : Int32) (uborn : Nat → Int32) (ustays : Nat → Int32) (Wd : Nat) (R : Nat) (thouses : Int32) (talways : Int32) (tnever : Int32) (nr : Nat) (tbeside : Nat → Int32) (tleast : Nat → Int32) (tmost : Nat → Int32) (ci : Nat) (s_1 : Int32 × Int32) : Int32 × Int32 := zf (hf_vote_B7 ulit uborn ustays Wd R thouses talways tnever nr tbeside tleast tmost ci) s_1 nr
def hf_vote (ulit : Int32) (uborn : Nat → Int32) (ustays : Nat → Int32) (Wd : Nat) (R : Nat) (thouses : Int32) (talways : Int32) (tnever : Int32) (nr : Nat) (tbeside : Nat → Int32) (tleast : Nat → Int32) (tmost : Nat → Int32) (ci : Nat) : Int32 :=
  zlet (hf_vote_L7 ulit uborn ustays Wd R thouses talways tnever nr tbeside tleast tmost ci (0, (-1))) (fun s_1 =>
  s_1.2)
theorem hd_X5_vote : yX5_vote.cls = RX5 ∧ yX5_vote.cls ≠ "java/lang/invoke/MethodHandle" ∧ yX5_vote.cls ≠ "java/lang/invoke/VarHandle" ∧ (parseMethodDescriptor yX5_vote.desc).map (fun d => d.parameters.length) = some 1 := by decide +kernel
set_option maxHeartbeats 4000000 in
set_option maxRecDepth 100000 in
theorem mt_hf_vote (l : Launch) (G : zG) (uA : Nat) (tA : Nat) (uA_bo : Nat) (uA_st : Nat) (uA_se : Nat) (ulit : Int32) (umayor : Int32) (unight : Int32) (uoil : Int32) (uborn : Nat → Int32) (ustays : Nat → Int32) (useen : Nat → Int32) (tA_be : Nat) (tA_le : Nat) (tA_mo : Nat) (tA_rn : Nat) (tA_cn : Nat) (tA_bo : Nat) (tA_st : Nat) (Wd : Nat) (R : Nat) (thouses : Int32) (talways : Int32) (tnever : Int32) (nr : Nat) (nc : Nat) (tring : Bool) (tbeside : Nat → Int32) (tleast : Nat → Int32) (tmost : Nat → Int32) (trnames : Nat → Int64) (ci : Nat) (hT : tOK Wd R nr nc) (hci : ci < 6) : Met l yX5_vote (ws_ yX5_vote cX5_vote 6 (some .int)) (zR 4 0 0) (zPo G [.ref uA, .int (nI ci)] ((hW G uA tA uA_bo uA_st uA_se ulit umayor unight uoil uborn ustays useen) ++ (tW G tA tA_be tA_le tA_mo tA_rn tA_cn tA_bo tA_st (nI Wd) (nI R) thouses talways tnever (nI nr) (nI nc) tring tbeside tleast tmost trnames))) (k2_QcV (.int (hf_vote ulit uborn ustays Wd R thouses talways tnever nr tbeside tleast tmost ci))) 0 0 (fun _ => False) := by
  refine zr_entO (by decide) (Nat.le_of_ble_eq_true rfl) ?_
  intro p e s m below meth c ⟨hx, hb, hr, hml, hown, hts, hlocks, hnm⟩ ls hl hP hK hE
  have hown : s.vm.findClass RX5 = some m.cls := hown
  have hl : lv_has ls 6 [(0, .ref uA), (1, .int (nI ci))] := hl
  have hTT := hT
  obtain ⟨hW0, hW5, hR0, hR6, hn4, hc6, hWR⟩ := hTT
  refine lv_iconst (v := (-1)) hx hb dX5_vote_0 (by decide) ?_
  refine lv_istore_n (lv' := [(2, .int (-1)), (0, .ref uA), (1, .int (nI ci))]) hx hb dX5_vote_1 rfl hl (by decide) rfl (fun ls hl => ?_)
  refine lv_iconst (v := 0) hx hb dX5_vote_2 (by decide) ?_
  refine lv_istore_n (lv' := [(3, .int 0), (2, .int (-1)), (0, .ref uA), (1, .int (nI ci))]) hx hb dX5_vote_3 rfl hl (by decide) rfl (fun ls hl => ?_)
  refine lv_iconst (v := 0) hx hb dX5_vote_4 (by decide) ?_
  refine lv_istore (lv' := [(4, .int 0), (3, .int 0), (2, .int (-1)), (0, .ref uA), (1, .int (nI ci))]) hx hb dX5_vote_5 hl (by decide) rfl (fun ls hl => ?_)
  have hlp_1 : ∀ (n k_1 : Nat) (s_1 : Int32 × Int32), k_1 ≤ nr → nr < k_1 + n → zf (hf_vote_B7 ulit uborn ustays Wd R thouses talways tnever nr tbeside tleast tmost ci) (0, (-1)) k_1 = s_1 → ∀ ls : Array Slot, lv_has ls 6 [(4, .int (nI k_1)), (3, .int s_1.1), (2, .int s_1.2), (0, .ref uA), (1, .int (nI ci))] → W p l e (zR 4 0 0) s m ([.ref uA, .int (nI ci)] : List Value).toArray below meth c s.heap [] 0 0 (MQ below (k2_QcV (.int (hf_vote ulit uborn ustays Wd R thouses talways tnever nr tbeside tleast tmost ci))) ([.ref uA, .int (nI ci)] : List Value).toArray s 0 0 (fun _ => False)) (F0 m 7 ls []) := by
    intro n
    induction n with
    | zero => intro k_1 s_1 h1 h2; exact absurd h2 (by omega)
    | succ n ih_1 =>
      intro k_1 s_1 hk_1 hn_1 hst_1 ls hl
      refine lv_iload hx hb dX5_vote_7 (lv_at hl 0 rfl) ?_
      refine lv_aload_n hx hb dX5_vote_9 rfl (lv_at hl 3 rfl) ?_
      refine va_get (D := G.1) (ci := 5) (v := .ref tA) (C := RX5) (T := TX5) (N := 8) hx hb hts in_X5 hown hK.1 hP 0 rfl rfl 0 (Nat.le_of_ble_eq_true rfl) (hts _ q372) (fun _ h => h) rfl dX5_vote_10 ?_
      refine va_getN (D := G.1) (ci := 6) (v := .int (nI nr)) (C := RX6) (T := TX6) (N := 15) hx hb hts in_X6 hown hK.1 hP 4 rfl rfl 5 (Nat.le_of_ble_eq_true rfl) ((hK.2.1.1 _ (List.mem_of_getElem? (i := 45) rfl)).use rfl) (fun _ h => h) rfl dX5_vote_13 ?_
      refine zr_ge k_1 nr (by omega) (by omega) (tgt := 64) hx hb dX5_vote_16 (by decide) (fun c_1 => ?_) (fun c_1 => ?_)
      · have ek_1 : k_1 = nr := Nat.le_antisymm hk_1 c_1
        have hs_1 : hf_vote_L7 ulit uborn ustays Wd R thouses talways tnever nr tbeside tleast tmost ci (0, (-1)) = s_1 := by rw [ek_1] at hst_1; exact hst_1
        have hl := lv_sub hl (l' := _) [1, 2, 3, 4] rfl
        refine lv_iload_n hx hb dX5_vote_64 rfl (lv_at hl 1 rfl) ?_
        have e_ : hf_vote ulit uborn ustays Wd R thouses talways tnever nr tbeside tleast tmost ci = s_1.2 := by rw [hf_vote, zlet_eq hs_1]
        exact zr_oi hx hb hr hlocks dX5_vote_65 (congrArg Value.int e_)
      · have hlt_1 : k_1 < nr := Nat.lt_of_not_le c_1
        refine lv_aload_n hx hb dX5_vote_19 rfl (lv_at hl 3 rfl) ?_
        refine lv_iload_n hx hb dX5_vote_20 rfl (lv_at hl 4 rfl) ?_
        refine lv_aload_n hx hb dX5_vote_21 rfl (lv_at hl 3 rfl) ?_
        refine lv_iload hx hb dX5_vote_22 (lv_at hl 0 rfl) ?_
        refine lv_aload_n hx hb dX5_vote_24 rfl (lv_at hl 3 rfl) ?_
        refine va_get (D := G.1) (ci := 5) (v := .int ulit) (C := RX5) (T := TX5) (N := 8) hx hb hts in_X5 hown hK.1 hP 0 rfl rfl 4 (Nat.le_of_ble_eq_true rfl) (hts _ q382) (fun _ h => h) rfl dX5_vote_25 ?_
        refine zr_obV ⟨hx, hb, hml, hown, hts⟩ (mt_hf_nextBy l G uA tA uA_bo uA_st uA_se ulit umayor unight uoil uborn ustays useen tA_be tA_le tA_mo tA_rn tA_cn tA_bo tA_st Wd R thouses talways tnever nr nc tring tbeside tleast tmost trnames (nI k_1) ulit hT (Or.inr ⟨nI_pos (by omega), by rw [nI_clamp (by omega)]; omega⟩)) (cwV 2 hts (lw_V q1083 q1084 q1085 q142 q1086) rfl rfl rfl hd_X5_nextBy ⟨(Nat.le_of_ble_eq_true rfl), (Nat.le_of_ble_eq_true rfl)⟩) hP hK hE 0 5 rfl rfl rfl hl.1 rfl (Nat.le_of_ble_eq_true rfl) dX5_vote_28 ⟨Nat.le_refl _, Nat.le_refl _⟩ ?_
        refine zr_puS ⟨hx, hb, hml, hown, hts⟩ (mt_bitCountN l (hf_nextBy uborn ustays Wd R thouses talways tnever tbeside (nI k_1) ulit)) (va_cwS 1 hts (lw_S q1091 q854 q155 q855) rfl rfl rfl hd_J10_bitCount.2 ⟨(Nat.le_of_ble_eq_true rfl), (Nat.le_of_ble_eq_true rfl)⟩) rfl hl.1 rfl (Nat.le_of_ble_eq_true rfl) dX5_vote_31 ⟨Nat.le_refl _, Nat.le_refl _⟩ ?_
        refine zr_obV ⟨hx, hb, hml, hown, hts⟩ (mt_hf_outside l G uA tA uA_bo uA_st uA_se ulit umayor unight uoil uborn ustays useen tA_be tA_le tA_mo tA_rn tA_cn tA_bo tA_st Wd R thouses talways tnever nr nc tring tbeside tleast tmost trnames ci (zpc (hf_nextBy uborn ustays Wd R thouses talways tnever tbeside (nI k_1) ulit)) hT hci) (cwV 2 hts (lw_V q1264 q1265 q1266 q142 q1267) rfl rfl rfl hd_X5_outside ⟨(Nat.le_of_ble_eq_true rfl), (Nat.le_of_ble_eq_true rfl)⟩) hP hK hE 0 5 rfl rfl rfl hl.1 rfl (Nat.le_of_ble_eq_true rfl) dX5_vote_34 ⟨Nat.le_refl _, Nat.le_refl _⟩ ?_
        refine lv_istore (lv' := [(5, .int (hf_outside tleast tmost ci (zpc (hf_nextBy uborn ustays Wd R thouses talways tnever tbeside (nI k_1) ulit)))), (4, .int (nI k_1)), (3, .int s_1.1), (2, .int s_1.2), (0, .ref uA), (1, .int (nI ci))]) hx hb dX5_vote_37 hl (by decide) rfl (fun ls hl => ?_)
        refine lv_iload_n hx hb dX5_vote_39 rfl (lv_at hl 3 rfl) ?_
        refine lv_if_lt (tgt := 52) hx hb dX5_vote_40 (by decide) (fun c_2 => ?_) (fun c_2 => ?_)
        · refine lv_iload hx hb dX5_vote_52 (lv_at hl 1 rfl) ?_
          refine lv_istore_n (lv' := [(2, .int (nI k_1)), (5, .int (hf_outside tleast tmost ci (zpc (hf_nextBy uborn ustays Wd R thouses talways tnever tbeside (nI k_1) ulit)))), (4, .int (nI k_1)), (3, .int s_1.1), (0, .ref uA), (1, .int (nI ci))]) hx hb dX5_vote_54 rfl hl (by decide) rfl (fun ls hl => ?_)
          refine lv_iload hx hb dX5_vote_55 (lv_at hl 1 rfl) ?_
          refine lv_istore_n (lv' := [(3, .int (hf_outside tleast tmost ci (zpc (hf_nextBy uborn ustays Wd R thouses talways tnever tbeside (nI k_1) ulit)))), (2, .int (nI k_1)), (5, .int (hf_outside tleast tmost ci (zpc (hf_nextBy uborn ustays Wd R thouses talways tnever tbeside (nI k_1) ulit)))), (4, .int (nI k_1)), (0, .ref uA), (1, .int (nI ci))]) hx hb dX5_vote_57 rfl hl (by decide) rfl (fun ls hl => ?_)
          refine lv_iinc (v := nI (k_1 + 1)) (lv' := [(4, .int (nI (k_1 + 1))), (3, .int (hf_outside tleast tmost ci (zpc (hf_nextBy uborn ustays Wd R thouses talways tnever tbeside (nI k_1) ulit)))), (2, .int (nI k_1)), (5, .int (hf_outside tleast tmost ci (zpc (hf_nextBy uborn ustays Wd R thouses talways tnever tbeside (nI k_1) ulit)))), (0, .ref uA), (1, .int (nI ci))]) hx hb dX5_vote_58 hl (k := 3) rfl (nI_add k_1 1) (by decide) rfl (fun ls hl => ?_)
          refine lv_goto (tgt := 7) hx hb dX5_vote_61 (by decide) ?_
          exact ih_1 (k_1 + 1) (hf_outside tleast tmost ci (zpc (hf_nextBy uborn ustays Wd R thouses talways tnever tbeside (nI k_1) ulit)), nI k_1) hlt_1 (by omega) (zf_s hst_1 (by rw [hf_vote_B7, if_pos c_2])) ls (lv_sub hl [0, 1, 2, 4, 5] rfl)
        · refine lv_iload hx hb dX5_vote_43 (lv_at hl 0 rfl) ?_
          refine lv_iload_n hx hb dX5_vote_45 rfl (lv_at hl 2 rfl) ?_
          refine lv_icmp_lt (tgt := 52) hx hb dX5_vote_46 (by decide) (fun c_3 => ?_) (fun c_3 => ?_)
          · refine lv_iload hx hb dX5_vote_52 (lv_at hl 1 rfl) ?_
            refine lv_istore_n (lv' := [(2, .int (nI k_1)), (5, .int (hf_outside tleast tmost ci (zpc (hf_nextBy uborn ustays Wd R thouses talways tnever tbeside (nI k_1) ulit)))), (4, .int (nI k_1)), (3, .int s_1.1), (0, .ref uA), (1, .int (nI ci))]) hx hb dX5_vote_54 rfl hl (by decide) rfl (fun ls hl => ?_)
            refine lv_iload hx hb dX5_vote_55 (lv_at hl 1 rfl) ?_
            refine lv_istore_n (lv' := [(3, .int (hf_outside tleast tmost ci (zpc (hf_nextBy uborn ustays Wd R thouses talways tnever tbeside (nI k_1) ulit)))), (2, .int (nI k_1)), (5, .int (hf_outside tleast tmost ci (zpc (hf_nextBy uborn ustays Wd R thouses talways tnever tbeside (nI k_1) ulit)))), (4, .int (nI k_1)), (0, .ref uA), (1, .int (nI ci))]) hx hb dX5_vote_57 rfl hl (by decide) rfl (fun ls hl => ?_)
            refine lv_iinc (v := nI (k_1 + 1)) (lv' := [(4, .int (nI (k_1 + 1))), (3, .int (hf_outside tleast tmost ci (zpc (hf_nextBy uborn ustays Wd R thouses talways tnever tbeside (nI k_1) ulit)))), (2, .int (nI k_1)), (5, .int (hf_outside tleast tmost ci (zpc (hf_nextBy uborn ustays Wd R thouses talways tnever tbeside (nI k_1) ulit)))), (0, .ref uA), (1, .int (nI ci))]) hx hb dX5_vote_58 hl (k := 3) rfl (nI_add k_1 1) (by decide) rfl (fun ls hl => ?_)
            refine lv_goto (tgt := 7) hx hb dX5_vote_61 (by decide) ?_
            exact ih_1 (k_1 + 1) (hf_outside tleast tmost ci (zpc (hf_nextBy uborn ustays Wd R thouses talways tnever tbeside (nI k_1) ulit)), nI k_1) hlt_1 (by omega) (zf_s hst_1 (by rw [hf_vote_B7, if_neg c_2, if_pos c_3])) ls (lv_sub hl [0, 1, 2, 4, 5] rfl)
          · refine lv_goto (tgt := 58) hx hb dX5_vote_49 (by decide) ?_
            refine lv_iinc (v := nI (k_1 + 1)) (lv' := [(4, .int (nI (k_1 + 1))), (5, .int (hf_outside tleast tmost ci (zpc (hf_nextBy uborn ustays Wd R thouses talways tnever tbeside (nI k_1) ulit)))), (3, .int s_1.1), (2, .int s_1.2), (0, .ref uA), (1, .int (nI ci))]) hx hb dX5_vote_58 hl (k := 1) rfl (nI_add k_1 1) (by decide) rfl (fun ls hl => ?_)
            refine lv_goto (tgt := 7) hx hb dX5_vote_61 (by decide) ?_
            exact ih_1 (k_1 + 1) (s_1.1, s_1.2) hlt_1 (by omega) (zf_s hst_1 (by rw [hf_vote_B7, if_neg c_2, if_neg c_3])) ls (lv_sub hl [0, 2, 3, 4, 5] rfl)
  exact hlp_1 (nr + 1) 0 (0, (-1)) (Nat.zero_le _) (by omega) rfl ls (lv_sub hl [0, 1, 2, 3, 4] rfl)
def hf_votes_B4 (ulit : Int32) (uborn : Nat → Int32) (ustays : Nat → Int32) (Wd : Nat) (R : Nat) (thouses : Int32) (talways : Int32) (tnever : Int32) (nr : Nat) (nc : Nat) (tbeside : Nat → Int32) (tleast : Nat → Int32) (tmost : Nat → Int32) (ru : Int32) (k_1 : Nat) (s_1 : Int32) : Int32 :=
  (if (hf_vote ulit uborn ustays Wd R thouses talways tnever nr tbeside tleast tmost k_1) = ru then
    s_1 + 1
  else
    s_1 + 0)
def hf_votes_L4 (ulit : Int32) (uborn : Nat → Int32) (ustays : Nat → Int32) (Wd : Nat) (R : Nat) (thouses : Int32) (talways : Int32) (tnever : Int32) (nr : Nat) (nc : Nat) (tbeside : Nat → Int32) (tleast : Nat → Int32) (tmost : Nat → Int32) (ru : Int32) (s_1 : Int32) : Int32 := zf (hf_votes_B4 ulit uborn ustays Wd R thouses talways tnever nr nc tbeside tleast tmost ru) s_1 nc
def hf_votes (ulit : Int32) (uborn : Nat → Int32) (ustays : Nat → Int32) (Wd : Nat) (R : Nat) (thouses : Int32) (talways : Int32) (tnever : Int32) (nr : Nat) (nc : Nat) (tbeside : Nat → Int32) (tleast : Nat → Int32) (tmost : Nat → Int32) (ru : Int32) : Int32 :=
  zlet (hf_votes_L4 ulit uborn ustays Wd R thouses talways tnever nr nc tbeside tleast tmost ru 0) (fun s_1 =>
  s_1)
theorem hd_X5_votes : yX5_votes.cls = RX5 ∧ yX5_votes.cls ≠ "java/lang/invoke/MethodHandle" ∧ yX5_votes.cls ≠ "java/lang/invoke/VarHandle" ∧ (parseMethodDescriptor yX5_votes.desc).map (fun d => d.parameters.length) = some 1 := by decide +kernel
set_option maxHeartbeats 4000000 in
set_option maxRecDepth 100000 in
theorem mt_hf_votes (l : Launch) (G : zG) (uA : Nat) (tA : Nat) (uA_bo : Nat) (uA_st : Nat) (uA_se : Nat) (ulit : Int32) (umayor : Int32) (unight : Int32) (uoil : Int32) (uborn : Nat → Int32) (ustays : Nat → Int32) (useen : Nat → Int32) (tA_be : Nat) (tA_le : Nat) (tA_mo : Nat) (tA_rn : Nat) (tA_cn : Nat) (tA_bo : Nat) (tA_st : Nat) (Wd : Nat) (R : Nat) (thouses : Int32) (talways : Int32) (tnever : Int32) (nr : Nat) (nc : Nat) (tring : Bool) (tbeside : Nat → Int32) (tleast : Nat → Int32) (tmost : Nat → Int32) (trnames : Nat → Int64) (ru : Int32) (hT : tOK Wd R nr nc) : Met l yX5_votes (ws_ yX5_votes cX5_votes 4 (some .int)) (zR 5 0 0) (zPo G [.ref uA, .int ru] ((hW G uA tA uA_bo uA_st uA_se ulit umayor unight uoil uborn ustays useen) ++ (tW G tA tA_be tA_le tA_mo tA_rn tA_cn tA_bo tA_st (nI Wd) (nI R) thouses talways tnever (nI nr) (nI nc) tring tbeside tleast tmost trnames))) (k2_QcV (.int (hf_votes ulit uborn ustays Wd R thouses talways tnever nr nc tbeside tleast tmost ru))) 0 0 (fun _ => False) := by
  refine zr_entO (by decide) (Nat.le_of_ble_eq_true rfl) ?_
  intro p e s m below meth c ⟨hx, hb, hr, hml, hown, hts, hlocks, hnm⟩ ls hl hP hK hE
  have hown : s.vm.findClass RX5 = some m.cls := hown
  have hl : lv_has ls 4 [(0, .ref uA), (1, .int ru)] := hl
  have hTT := hT
  obtain ⟨hW0, hW5, hR0, hR6, hn4, hc6, hWR⟩ := hTT
  refine lv_iconst (v := 0) hx hb dX5_votes_0 (by decide) ?_
  refine lv_istore_n (lv' := [(2, .int 0), (0, .ref uA), (1, .int ru)]) hx hb dX5_votes_1 rfl hl (by decide) rfl (fun ls hl => ?_)
  refine lv_iconst (v := 0) hx hb dX5_votes_2 (by decide) ?_
  refine lv_istore_n (lv' := [(3, .int 0), (2, .int 0), (0, .ref uA), (1, .int ru)]) hx hb dX5_votes_3 rfl hl (by decide) rfl (fun ls hl => ?_)
  have hlp_1 : ∀ (n k_1 : Nat) (s_1 : Int32), k_1 ≤ nc → nc < k_1 + n → zf (hf_votes_B4 ulit uborn ustays Wd R thouses talways tnever nr nc tbeside tleast tmost ru) 0 k_1 = s_1 → ∀ ls : Array Slot, lv_has ls 4 [(3, .int (nI k_1)), (2, .int s_1), (0, .ref uA), (1, .int ru)] → W p l e (zR 5 0 0) s m ([.ref uA, .int ru] : List Value).toArray below meth c s.heap [] 0 0 (MQ below (k2_QcV (.int (hf_votes ulit uborn ustays Wd R thouses talways tnever nr nc tbeside tleast tmost ru))) ([.ref uA, .int ru] : List Value).toArray s 0 0 (fun _ => False)) (F0 m 4 ls []) := by
    intro n
    induction n with
    | zero => intro k_1 s_1 h1 h2; exact absurd h2 (by omega)
    | succ n ih_1 =>
      intro k_1 s_1 hk_1 hn_1 hst_1 ls hl
      refine lv_iload_n hx hb dX5_votes_4 rfl (lv_at hl 0 rfl) ?_
      refine lv_aload_n hx hb dX5_votes_5 rfl (lv_at hl 2 rfl) ?_
      refine va_get (D := G.1) (ci := 5) (v := .ref tA) (C := RX5) (T := TX5) (N := 8) hx hb hts in_X5 hown hK.1 hP 0 rfl rfl 0 (Nat.le_of_ble_eq_true rfl) (hts _ q372) (fun _ h => h) rfl dX5_votes_6 ?_
      refine va_getN (D := G.1) (ci := 6) (v := .int (nI nc)) (C := RX6) (T := TX6) (N := 15) hx hb hts in_X6 hown hK.1 hP 4 rfl rfl 6 (Nat.le_of_ble_eq_true rfl) ((hK.2.1.1 _ (List.mem_of_getElem? (i := 50) rfl)).use rfl) (fun _ h => h) rfl dX5_votes_9 ?_
      refine zr_ge k_1 nc (by omega) (by omega) (tgt := 38) hx hb dX5_votes_12 (by decide) (fun c_1 => ?_) (fun c_1 => ?_)
      · have ek_1 : k_1 = nc := Nat.le_antisymm hk_1 c_1
        have hs_1 : hf_votes_L4 ulit uborn ustays Wd R thouses talways tnever nr nc tbeside tleast tmost ru 0 = s_1 := by rw [ek_1] at hst_1; exact hst_1
        have hl := lv_sub hl (l' := _) [1, 2, 3] rfl
        refine lv_iload_n hx hb dX5_votes_38 rfl (lv_at hl 0 rfl) ?_
        have e_ : hf_votes ulit uborn ustays Wd R thouses talways tnever nr nc tbeside tleast tmost ru = s_1 := by rw [hf_votes, zlet_eq hs_1]
        exact zr_oi hx hb hr hlocks dX5_votes_39 (congrArg Value.int e_)
      · have hlt_1 : k_1 < nc := Nat.lt_of_not_le c_1
        refine lv_iload_n hx hb dX5_votes_15 rfl (lv_at hl 1 rfl) ?_
        refine lv_aload_n hx hb dX5_votes_16 rfl (lv_at hl 2 rfl) ?_
        refine lv_iload_n hx hb dX5_votes_17 rfl (lv_at hl 0 rfl) ?_
        refine zr_obV ⟨hx, hb, hml, hown, hts⟩ (mt_hf_vote l G uA tA uA_bo uA_st uA_se ulit umayor unight uoil uborn ustays useen tA_be tA_le tA_mo tA_rn tA_cn tA_bo tA_st Wd R thouses talways tnever nr nc tring tbeside tleast tmost trnames k_1 hT (by omega)) (cwV 1 hts (lw_V q1277 q1261 q1262 q142 q1263) rfl rfl rfl hd_X5_vote ⟨(Nat.le_of_ble_eq_true rfl), (Nat.le_of_ble_eq_true rfl)⟩) hP hK hE 0 5 rfl rfl rfl hl.1 rfl (Nat.le_of_ble_eq_true rfl) dX5_votes_18 ⟨Nat.le_refl _, Nat.le_refl _⟩ ?_
        refine lv_iload_n hx hb dX5_votes_21 rfl (lv_at hl 3 rfl) ?_
        refine lv_icmp_ne (tgt := 29) hx hb dX5_votes_22 (by decide) (fun c_2 => ?_) (fun c_2 => ?_)
        · refine lv_iconst (v := 0) hx hb dX5_votes_29 (by decide) ?_
          refine lv_iadd hx hb dX5_votes_30 ?_
          refine lv_istore_n (lv' := [(2, .int (s_1 + 0)), (3, .int (nI k_1)), (0, .ref uA), (1, .int ru)]) hx hb dX5_votes_31 rfl hl (by decide) rfl (fun ls hl => ?_)
          refine lv_iinc (v := nI (k_1 + 1)) (lv' := [(3, .int (nI (k_1 + 1))), (2, .int (s_1 + 0)), (0, .ref uA), (1, .int ru)]) hx hb dX5_votes_32 hl (k := 1) rfl (nI_add k_1 1) (by decide) rfl (fun ls hl => ?_)
          refine lv_goto (tgt := 4) hx hb dX5_votes_35 (by decide) ?_
          exact ih_1 (k_1 + 1) (s_1 + 0) hlt_1 (by omega) (zf_s hst_1 (by rw [hf_votes_B4, if_neg c_2])) ls (lv_sub hl [0, 1, 2, 3] rfl)
        · refine lv_iconst (v := 1) hx hb dX5_votes_25 (by decide) ?_
          refine lv_goto (tgt := 30) hx hb dX5_votes_26 (by decide) ?_
          refine lv_iadd hx hb dX5_votes_30 ?_
          refine lv_istore_n (lv' := [(2, .int (s_1 + 1)), (3, .int (nI k_1)), (0, .ref uA), (1, .int ru)]) hx hb dX5_votes_31 rfl hl (by decide) rfl (fun ls hl => ?_)
          refine lv_iinc (v := nI (k_1 + 1)) (lv' := [(3, .int (nI (k_1 + 1))), (2, .int (s_1 + 1)), (0, .ref uA), (1, .int ru)]) hx hb dX5_votes_32 hl (k := 1) rfl (nI_add k_1 1) (by decide) rfl (fun ls hl => ?_)
          refine lv_goto (tgt := 4) hx hb dX5_votes_35 (by decide) ?_
          exact ih_1 (k_1 + 1) (s_1 + 1) hlt_1 (by omega) (zf_s hst_1 (by rw [hf_votes_B4, if_pos c_2])) ls (lv_sub hl [0, 1, 2, 3] rfl)
  exact hlp_1 (nc + 1) 0 0 (Nat.zero_le _) (by omega) rfl ls (lv_sub hl [0, 1, 2, 3] rfl)
def hf_elects_B26 (ulit : Int32) (uborn : Nat → Int32) (ustays : Nat → Int32) (Wd : Nat) (R : Nat) (thouses : Int32) (talways : Int32) (tnever : Int32) (nr : Nat) (nc : Nat) (tbeside : Nat → Int32) (tleast : Nat → Int32) (tmost : Nat → Int32) (s_3 : Nat × Nat) : (Nat × Nat) ⊕ (Nat × Nat) :=
  (if nr ≤ s_3.1 then
    .inr (s_3.1, s_3.2)
  else
    (if (hf_votes ulit uborn ustays Wd R thouses talways tnever nr nc tbeside tleast tmost (nI s_3.1)) ≤ (hf_votes ulit uborn ustays Wd R thouses talways tnever nr nc tbeside tleast tmost (nI s_3.2)) then
      .inl (s_3.1 + 1, s_3.2)
    else
      .inl (s_3.1 + 1, s_3.1)))
def hf_elects_L26 (ulit : Int32) (uborn : Nat → Int32) (ustays : Nat → Int32) (Wd : Nat) (R : Nat) (thouses : Int32) (talways : Int32) (tnever : Int32) (nr : Nat) (nc : Nat) (tbeside : Nat → Int32) (tleast : Nat → Int32) (tmost : Nat → Int32) (s_3 : Nat × Nat) : Nat × Nat := zw (hf_elects_B26 ulit uborn ustays Wd R thouses talways tnever nr nc tbeside tleast tmost) (s_3) ((nr - s_3.1) + 1) s_3
def hf_elects (ulit : Int32) (umayor : Int32) (uborn : Nat → Int32) (ustays : Nat → Int32) (Wd : Nat) (R : Nat) (thouses : Int32) (talways : Int32) (tnever : Int32) (nr : Nat) (nc : Nat) (tbeside : Nat → Int32) (tleast : Nat → Int32) (tmost : Nat → Int32) : Bool × Int32 :=
  (if nr = 0 then
    (false, umayor)
  else
    (if nc = 0 then
      (false, umayor)
    else
      zlet (hf_elects_L26 ulit uborn ustays Wd R thouses talways tnever nr nc tbeside tleast tmost (1, 0)) (fun t_3 =>
      (true, nI t_3.2))))
theorem hd_X5_elects : yX5_elects.cls = RX5 ∧ yX5_elects.cls ≠ "java/lang/invoke/MethodHandle" ∧ yX5_elects.cls ≠ "java/lang/invoke/VarHandle" ∧ (parseMethodDescriptor yX5_elects.desc).map (fun d => d.parameters.length) = some 0 := by decide +kernel
set_option maxHeartbeats 4000000 in
set_option maxRecDepth 100000 in
theorem mt_hf_elects (l : Launch) (G : zG) (uA : Nat) (tA : Nat) (uA_bo : Nat) (uA_st : Nat) (uA_se : Nat) (ulit : Int32) (umayor : Int32) (unight : Int32) (uoil : Int32) (uborn : Nat → Int32) (ustays : Nat → Int32) (useen : Nat → Int32) (tA_be : Nat) (tA_le : Nat) (tA_mo : Nat) (tA_rn : Nat) (tA_cn : Nat) (tA_bo : Nat) (tA_st : Nat) (Wd : Nat) (R : Nat) (thouses : Int32) (talways : Int32) (tnever : Int32) (nr : Nat) (nc : Nat) (tring : Bool) (tbeside : Nat → Int32) (tleast : Nat → Int32) (tmost : Nat → Int32) (trnames : Nat → Int64) (hT : tOK Wd R nr nc) (sz : Nat) : Met l yX5_elects (ws_ yX5_elects cX5_elects 3 (some .boolean)) (zR 6 0 0) (zPm G sz [.ref uA] ((hW G uA tA uA_bo uA_st uA_se ulit umayor unight uoil uborn ustays useen) ++ (tW G tA tA_be tA_le tA_mo tA_rn tA_cn tA_bo tA_st (nI Wd) (nI R) thouses talways tnever (nI nr) (nI nc) tring tbeside tleast tmost trnames))) (zQm G (True) (some (.int (zb ((hf_elects ulit umayor uborn ustays Wd R thouses talways tnever nr nc tbeside tleast tmost).1)))) ((hW G uA tA uA_bo uA_st uA_se ulit ((hf_elects ulit umayor uborn ustays Wd R thouses talways tnever nr nc tbeside tleast tmost).2) unight uoil uborn ustays useen) ++ (tW G tA tA_be tA_le tA_mo tA_rn tA_cn tA_bo tA_st (nI Wd) (nI R) thouses talways tnever (nI nr) (nI nc) tring tbeside tleast tmost trnames)) (va_A ((hW G uA tA uA_bo uA_st uA_se ulit umayor unight uoil uborn ustays useen) ++ (tW G tA tA_be tA_le tA_mo tA_rn tA_cn tA_bo tA_st (nI Wd) (nI R) thouses talways tnever (nI nr) (nI nc) tring tbeside tleast tmost trnames)) sz)) 0 0 (va_A ((hW G uA tA uA_bo uA_st uA_se ulit umayor unight uoil uborn ustays useen) ++ (tW G tA tA_be tA_le tA_mo tA_rn tA_cn tA_bo tA_st (nI Wd) (nI R) thouses talways tnever (nI nr) (nI nc) tring tbeside tleast tmost trnames)) sz) := by
  refine zr_entM (by decide) (Nat.le_of_ble_eq_true rfl) ?_
  intro p e s m below meth c ⟨hx, hb, hr, hml, hown, hts, hlocks, hnm⟩ ls hl hP hK A hE hA hD hS
  have hown : s.vm.findClass RX5 = some m.cls := hown
  have hl : lv_has ls 3 [(0, .ref uA)] := hl
  obtain ⟨H, hH⟩ : ∃ H, H = s.heap := ⟨_, rfl⟩
  obtain ⟨locs, hlo⟩ : ∃ L : List Loc, L = [] := ⟨_, rfl⟩
  rw [← hH] at hP
  have hS : va_S A s.heap H locs := by rw [hH, hlo]; exact va_S.rf
  have hgo : W p l e (zR 6 0 0) s m ([.ref uA] : List Value).toArray below meth c H locs 0 0 (MQ below (zQm G (True) (some (.int (zb ((hf_elects ulit umayor uborn ustays Wd R thouses talways tnever nr nc tbeside tleast tmost).1)))) ((hW G uA tA uA_bo uA_st uA_se ulit ((hf_elects ulit umayor uborn ustays Wd R thouses talways tnever nr nc tbeside tleast tmost).2) unight uoil uborn ustays useen) ++ (tW G tA tA_be tA_le tA_mo tA_rn tA_cn tA_bo tA_st (nI Wd) (nI R) thouses talways tnever (nI nr) (nI nc) tring tbeside tleast tmost trnames)) A) ([.ref uA] : List Value).toArray s 0 0 A) (F0 m 0 ls []) := ?_
  · rw [hH, hlo] at hgo; exact hgo
  clear hH hlo
  have hTT := hT
  obtain ⟨hW0, hW5, hR0, hR6, hn4, hc6, hWR⟩ := hTT
  refine lv_aload_n hx hb dX5_elects_0 rfl (lv_at hl 0 rfl) ?_
  refine va_get (D := G.1) (ci := 5) (v := .ref tA) (C := RX5) (T := TX5) (N := 8) hx hb hts in_X5 hown hK.1 hP 0 rfl rfl 0 (Nat.le_of_ble_eq_true rfl) (hts _ q372) (fun _ h => h) rfl dX5_elects_1 ?_
  refine va_getN (D := G.1) (ci := 6) (v := .int (nI nr)) (C := RX6) (T := TX6) (N := 15) hx hb hts in_X6 hown hK.1 hP 4 rfl rfl 5 (Nat.le_of_ble_eq_true rfl) ((hK.2.1.1 _ (List.mem_of_getElem? (i := 45) rfl)).use rfl) (fun _ h => h) rfl dX5_elects_4 ?_
  refine zr_ifeqN nr (by omega) (tgt := 20) hx hb dX5_elects_7 (by decide) (fun c_1 => ?_) (fun c_1 => ?_)
  · refine lv_iconst (v := 0) hx hb dX5_elects_20 (by decide) ?_
    have e_ : hf_elects ulit umayor uborn ustays Wd R thouses talways tnever nr nc tbeside tleast tmost = (false, umayor) := by rw [hf_elects, if_pos c_1]
    exact zr_mz hx hb hr hlocks hP hD hS dX5_elects_21 rfl (by rw [e_]; rfl) (by rw [e_]) trivial
  · refine lv_aload_n hx hb dX5_elects_10 rfl (lv_at hl 0 rfl) ?_
    refine va_get (D := G.1) (ci := 5) (v := .ref tA) (C := RX5) (T := TX5) (N := 8) hx hb hts in_X5 hown hK.1 hP 0 rfl rfl 0 (Nat.le_of_ble_eq_true rfl) (hts _ q372) (fun _ h => h) rfl dX5_elects_11 ?_
    refine va_getN (D := G.1) (ci := 6) (v := .int (nI nc)) (C := RX6) (T := TX6) (N := 15) hx hb hts in_X6 hown hK.1 hP 4 rfl rfl 6 (Nat.le_of_ble_eq_true rfl) ((hK.2.1.1 _ (List.mem_of_getElem? (i := 50) rfl)).use rfl) (fun _ h => h) rfl dX5_elects_14 ?_
    refine zr_ifneN nc (by omega) (tgt := 22) hx hb dX5_elects_17 (by decide) (fun c_2 => ?_) (fun c_2 => ?_)
    · refine lv_iconst (v := 0) hx hb dX5_elects_22 (by decide) ?_
      refine lv_istore_n (lv' := [(1, .int 0), (0, .ref uA)]) hx hb dX5_elects_23 rfl hl (by decide) rfl (fun ls hl => ?_)
      refine lv_iconst (v := 1) hx hb dX5_elects_24 (by decide) ?_
      refine lv_istore_n (lv' := [(2, .int 1), (1, .int 0), (0, .ref uA)]) hx hb dX5_elects_25 rfl hl (by decide) rfl (fun ls hl => ?_)
      have hx_3 : ∀ t_3 : Nat × Nat, hf_elects_L26 ulit uborn ustays Wd R thouses talways tnever nr nc tbeside tleast tmost (1, 0) = t_3 → ∀ (H : Heap) (locs : List Loc), va_P G.1 zcl ((hW G uA tA uA_bo uA_st uA_se ulit umayor unight uoil uborn ustays useen) ++ (tW G tA tA_be tA_le tA_mo tA_rn tA_cn tA_bo tA_st (nI Wd) (nI R) thouses talways tnever (nI nr) (nI nc) tring tbeside tleast tmost trnames)) H → va_D A ((hW G uA tA uA_bo uA_st uA_se ulit umayor unight uoil uborn ustays useen) ++ (tW G tA tA_be tA_le tA_mo tA_rn tA_cn tA_bo tA_st (nI Wd) (nI R) thouses talways tnever (nI nr) (nI nc) tring tbeside tleast tmost trnames)) → va_S A s.heap H locs → ∀ ls : Array Slot, lv_has ls 3 [(1, .int (nI t_3.2)), (0, .ref uA)] → W p l e (zR 6 0 0) s m ([.ref uA] : List Value).toArray below meth c H locs 0 0 (MQ below (zQm G (True) (some (.int (zb ((hf_elects ulit umayor uborn ustays Wd R thouses talways tnever nr nc tbeside tleast tmost).1)))) ((hW G uA tA uA_bo uA_st uA_se ulit ((hf_elects ulit umayor uborn ustays Wd R thouses talways tnever nr nc tbeside tleast tmost).2) unight uoil uborn ustays useen) ++ (tW G tA tA_be tA_le tA_mo tA_rn tA_cn tA_bo tA_st (nI Wd) (nI R) thouses talways tnever (nI nr) (nI nc) tring tbeside tleast tmost trnames)) A) ([.ref uA] : List Value).toArray s 0 0 A) (F0 m 58 ls []) := by
        intro t_3 ht_3 H locs hP hD hS ls hl
        refine lv_aload_n hx hb dX5_elects_58 rfl (lv_at hl 1 rfl) ?_
        refine lv_iload_n hx hb dX5_elects_59 rfl (lv_at hl 0 rfl) ?_
        refine va_put (D := G.1) (ci := 5) (v := .int (nI t_3.2)) (ty := .int) (C := RX5) (T := TX5) (N := 8) hx hb hts in_X5 tyX5 tyX5_ok nmX5 hown hK.1 hP hD hS 0 rfl rfl 5 (Nat.le_of_ble_eq_true rfl) (hts _ q385) (fun _ h => h) rfl (tyX5_ok 5 (Nat.le_of_ble_eq_true rfl)) rfl rfl (Nat.le_of_ble_eq_true rfl) dX5_elects_60 (fun H locs hP hD hS => ?_)
        have hP : va_P G.1 zcl ((hW G uA tA uA_bo uA_st uA_se ulit (nI t_3.2) unight uoil uborn ustays useen) ++ (tW G tA tA_be tA_le tA_mo tA_rn tA_cn tA_bo tA_st (nI Wd) (nI R) thouses talways tnever (nI nr) (nI nc) tring tbeside tleast tmost trnames)) H := hP
        have hD : va_D A ((hW G uA tA uA_bo uA_st uA_se ulit (nI t_3.2) unight uoil uborn ustays useen) ++ (tW G tA tA_be tA_le tA_mo tA_rn tA_cn tA_bo tA_st (nI Wd) (nI R) thouses talways tnever (nI nr) (nI nc) tring tbeside tleast tmost trnames)) := hD
        refine lv_iconst (v := 1) hx hb dX5_elects_63 (by decide) ?_
        have e_ : hf_elects ulit umayor uborn ustays Wd R thouses talways tnever nr nc tbeside tleast tmost = (true, nI t_3.2) := by rw [hf_elects, if_neg c_1, if_neg c_2, zlet_eq ht_3]
        exact zr_mz hx hb hr hlocks hP hD hS dX5_elects_64 rfl (by rw [e_]; rfl) (by rw [e_]) trivial
      have hlp_3 : ∀ (n : Nat) (s_3 : Nat × Nat), nr - s_3.1 < n → zw (hf_elects_B26 ulit uborn ustays Wd R thouses talways tnever nr nc tbeside tleast tmost) (1, 0) n s_3 = hf_elects_L26 ulit uborn ustays Wd R thouses talways tnever nr nc tbeside tleast tmost (1, 0) → s_3.1 ≤ nr → s_3.2 < nr → ∀ (H : Heap) (locs : List Loc), va_P G.1 zcl ((hW G uA tA uA_bo uA_st uA_se ulit umayor unight uoil uborn ustays useen) ++ (tW G tA tA_be tA_le tA_mo tA_rn tA_cn tA_bo tA_st (nI Wd) (nI R) thouses talways tnever (nI nr) (nI nc) tring tbeside tleast tmost trnames)) H → va_D A ((hW G uA tA uA_bo uA_st uA_se ulit umayor unight uoil uborn ustays useen) ++ (tW G tA tA_be tA_le tA_mo tA_rn tA_cn tA_bo tA_st (nI Wd) (nI R) thouses talways tnever (nI nr) (nI nc) tring tbeside tleast tmost trnames)) → va_S A s.heap H locs → ∀ ls : Array Slot, lv_has ls 3 [(2, .int (nI s_3.1)), (1, .int (nI s_3.2)), (0, .ref uA)] → W p l e (zR 6 0 0) s m ([.ref uA] : List Value).toArray below meth c H locs 0 0 (MQ below (zQm G (True) (some (.int (zb ((hf_elects ulit umayor uborn ustays Wd R thouses talways tnever nr nc tbeside tleast tmost).1)))) ((hW G uA tA uA_bo uA_st uA_se ulit ((hf_elects ulit umayor uborn ustays Wd R thouses talways tnever nr nc tbeside tleast tmost).2) unight uoil uborn ustays useen) ++ (tW G tA tA_be tA_le tA_mo tA_rn tA_cn tA_bo tA_st (nI Wd) (nI R) thouses talways tnever (nI nr) (nI nc) tring tbeside tleast tmost trnames)) A) ([.ref uA] : List Value).toArray s 0 0 A) (F0 m 26 ls []) := by
        intro n
        induction n with
        | zero => exact fun _ h => absurd h (Nat.not_lt_zero _)
        | succ n ih_3 =>
          intro s_3 hmu_3 hR_3 hi2 hi1 H locs hP hD hS ls hl
          refine lv_iload_n hx hb dX5_elects_26 rfl (lv_at hl 0 rfl) ?_
          refine lv_aload_n hx hb dX5_elects_27 rfl (lv_at hl 2 rfl) ?_
          refine va_get (D := G.1) (ci := 5) (v := .ref tA) (C := RX5) (T := TX5) (N := 8) hx hb hts in_X5 hown hK.1 hP 0 rfl rfl 0 (Nat.le_of_ble_eq_true rfl) (hts _ q372) (fun _ h => h) rfl dX5_elects_28 ?_
          refine va_getN (D := G.1) (ci := 6) (v := .int (nI nr)) (C := RX6) (T := TX6) (N := 15) hx hb hts in_X6 hown hK.1 hP 4 rfl rfl 5 (Nat.le_of_ble_eq_true rfl) ((hK.2.1.1 _ (List.mem_of_getElem? (i := 45) rfl)).use rfl) (fun _ h => h) rfl dX5_elects_31 ?_
          refine zr_ge s_3.1 nr (by omega) (by omega) (tgt := 58) hx hb dX5_elects_34 (by decide) (fun c_4 => ?_) (fun c_4 => ?_)
          · exact hx_3 (s_3.1, s_3.2) (hR_3.symm.trans (zw_r (by rw [hf_elects_B26, if_pos c_4]))) H locs hP hD hS ls (lv_sub hl [1, 2] rfl)
          · refine lv_aload_n hx hb dX5_elects_37 rfl (lv_at hl 2 rfl) ?_
            refine lv_iload_n hx hb dX5_elects_38 rfl (lv_at hl 0 rfl) ?_
            refine zr_obV ⟨hx, hb, hml, hown, hts⟩ (mt_hf_votes l G uA tA uA_bo uA_st uA_se ulit umayor unight uoil uborn ustays useen tA_be tA_le tA_mo tA_rn tA_cn tA_bo tA_st Wd R thouses talways tnever nr nc tring tbeside tleast tmost trnames (nI s_3.1) hT) (cwV 1 hts (lw_V q1286 q1274 q1275 q142 q1276) rfl rfl rfl hd_X5_votes ⟨(Nat.le_of_ble_eq_true rfl), (Nat.le_of_ble_eq_true rfl)⟩) hP hK (zE_o hE hS) 0 5 rfl rfl rfl hl.1 rfl (Nat.le_of_ble_eq_true rfl) dX5_elects_39 ⟨Nat.le_refl _, Nat.le_refl _⟩ ?_
            refine lv_aload_n hx hb dX5_elects_42 rfl (lv_at hl 2 rfl) ?_
            refine lv_iload_n hx hb dX5_elects_43 rfl (lv_at hl 1 rfl) ?_
            refine zr_obV ⟨hx, hb, hml, hown, hts⟩ (mt_hf_votes l G uA tA uA_bo uA_st uA_se ulit umayor unight uoil uborn ustays useen tA_be tA_le tA_mo tA_rn tA_cn tA_bo tA_st Wd R thouses talways tnever nr nc tring tbeside tleast tmost trnames (nI s_3.2) hT) (cwV 1 hts (lw_V q1286 q1274 q1275 q142 q1276) rfl rfl rfl hd_X5_votes ⟨(Nat.le_of_ble_eq_true rfl), (Nat.le_of_ble_eq_true rfl)⟩) hP hK (zE_o hE hS) 0 5 rfl rfl rfl hl.1 rfl (Nat.le_of_ble_eq_true rfl) dX5_elects_44 ⟨Nat.le_refl _, Nat.le_refl _⟩ ?_
            refine lv_icmp_le (tgt := 52) hx hb dX5_elects_47 (by decide) (fun c_5 => ?_) (fun c_5 => ?_)
            · refine lv_iinc (v := nI (s_3.1 + 1)) (lv' := [(2, .int (nI (s_3.1 + 1))), (1, .int (nI s_3.2)), (0, .ref uA)]) hx hb dX5_elects_52 hl (k := 0) rfl (nI_add s_3.1 1) (by decide) rfl (fun ls hl => ?_)
              refine lv_goto (tgt := 26) hx hb dX5_elects_55 (by decide) ?_
              exact ih_3 (s_3.1 + 1, s_3.2) (by omega) ((zw_l (by rw [hf_elects_B26, if_neg c_4, if_pos c_5])).symm.trans hR_3) (by omega) (by omega) H locs hP hD hS ls (lv_sub hl [0, 1, 2] rfl)
            · refine lv_iload_n hx hb dX5_elects_50 rfl (lv_at hl 0 rfl) ?_
              refine lv_istore_n (lv' := [(1, .int (nI s_3.1)), (2, .int (nI s_3.1)), (0, .ref uA)]) hx hb dX5_elects_51 rfl hl (by decide) rfl (fun ls hl => ?_)
              refine lv_iinc (v := nI (s_3.1 + 1)) (lv' := [(2, .int (nI (s_3.1 + 1))), (1, .int (nI s_3.1)), (0, .ref uA)]) hx hb dX5_elects_52 hl (k := 1) rfl (nI_add s_3.1 1) (by decide) rfl (fun ls hl => ?_)
              refine lv_goto (tgt := 26) hx hb dX5_elects_55 (by decide) ?_
              exact ih_3 (s_3.1 + 1, s_3.1) (by omega) ((zw_l (by rw [hf_elects_B26, if_neg c_4, if_neg c_5])).symm.trans hR_3) (by omega) (by omega) H locs hP hD hS ls (lv_sub hl [0, 1, 2] rfl)
      exact hlp_3 _ (1, 0) (Nat.lt_succ_self _) (by rw [hf_elects_L26]) (by omega) (by omega) H locs hP hD hS ls (lv_sub hl [0, 1, 2] rfl)
    · refine lv_iconst (v := 0) hx hb dX5_elects_20 (by decide) ?_
      have e_ : hf_elects ulit umayor uborn ustays Wd R thouses talways tnever nr nc tbeside tleast tmost = (false, umayor) := by rw [hf_elects, if_neg c_1, if_pos c_2]
      exact zr_mz hx hb hr hlocks hP hD hS dX5_elects_21 rfl (by rw [e_]; rfl) (by rw [e_]) trivial
