def rW_ (G : zG) (rA : Nat) (r_size : Int32) (r_at : Int32) (r_behind : Int32) (r_sort : Int32) (r_number : Int32) (r_steps : Int32) (r_picture : Int32) (xA : Nat) (xa_trays : Nat) (xa_tape : Nat) (x_taped : Int32) (x_faultKind : Int32) (x_faultAt : Int32) (xa_bad : Nat) (xa_refused : Nat) (x_status : Int32) (x_above : Int64) (x_under : Int64) (nA : Nat) (xa_marks : Nat) (x_markMany : Int32) (xa_pictures : Nat) (x_lead : Int32) (x_round : Int32) (xa_ways : Nat) (x_bestSet : Int32) (x_bestMany : Int32) (x_left : Int32) (xa_aside : Nat) (xa_last : Nat) (x_hasLived : Bool) (xtape : Nat → Int32) (b_v0 : Value) (b_v1 : Value) (b_v2 : Value) (b_v3 : Value) (b_v4 : Value) (b_v5 : Value) (b_kind : Int32) (b_place : Int32) : va_W := [(rA, .inr (8, [.int r_size, .int r_at, .int r_behind, .int r_sort, .int r_number, .int r_steps, .int r_picture, .ref xA])), (xA, .inr (0, [.ref xa_trays, .ref xa_tape, .int x_taped, .int x_faultKind, .int x_faultAt, .ref xa_bad, .ref xa_refused, .int x_status, .long x_above, .long x_under, .ref nA, .ref xa_marks, .int x_markMany, .ref xa_pictures, .int x_lead, .int x_round, .ref xa_ways, .int x_bestSet, .int x_bestMany, .int x_left, .ref xa_aside, .ref xa_last, .int (zb x_hasLived)])), (xa_tape, .inl (G.2 2, 900, .inl xtape)), (xa_bad, .inr (2, [b_v0, b_v1, b_v2, b_v3, b_v4, b_v5, .int b_kind, .int b_place]))]
def bW_ (G : zG) (xa_bad : Nat) (b_v0 : Value) (b_v1 : Value) (b_v2 : Value) (b_v3 : Value) (b_v4 : Value) (b_v5 : Value) (b_kind : Int32) (b_place : Int32) : va_W := [(xa_bad, .inr (2, [b_v0, b_v1, b_v2, b_v3, b_v4, b_v5, .int b_kind, .int b_place]))]
theorem zlen_116 : ∀ i, i < 23 → zLen.getD i 0 ≤ 116 := by decide
def bf_at (wh : Int32) (pl : Int32) : Int32 × Int32 :=
  (wh, pl)
theorem hd_X2_at : yX2_at.cls = RX2 ∧ yX2_at.cls ≠ "java/lang/invoke/MethodHandle" ∧ yX2_at.cls ≠ "java/lang/invoke/VarHandle" ∧ (parseMethodDescriptor yX2_at.desc).map (fun d => d.parameters.length) = some 2 := by decide +kernel
set_option maxHeartbeats 4000000 in
set_option maxRecDepth 100000 in
theorem mt_bf_at (l : Launch) (G : zG) (xa_bad : Nat) (b_v0 : Value) (b_v1 : Value) (b_v2 : Value) (b_v3 : Value) (b_v4 : Value) (b_v5 : Value) (b_kind : Int32) (b_place : Int32) (wh : Int32) (pl : Int32) (sz : Nat) : Met l yX2_at (ws_ yX2_at cX2_at 3 (some (.object "WindowHill$Bad"))) (zR 1 0 0) (zPm G sz [.ref xa_bad, .int wh, .int pl] (bW_ G xa_bad b_v0 b_v1 b_v2 b_v3 b_v4 b_v5 b_kind b_place)) (zQm G (True) (some (.ref xa_bad)) (bW_ G xa_bad b_v0 b_v1 b_v2 b_v3 b_v4 b_v5 ((bf_at wh pl).1) ((bf_at wh pl).2)) (va_A (bW_ G xa_bad b_v0 b_v1 b_v2 b_v3 b_v4 b_v5 b_kind b_place) sz)) 0 0 (va_A (bW_ G xa_bad b_v0 b_v1 b_v2 b_v3 b_v4 b_v5 b_kind b_place) sz) := by
  refine zr_entM (by decide) (Nat.le_of_ble_eq_true rfl) ?_
  intro p e s m below meth c ⟨hx, hb, hr, hml, hown, hts, hlocks, hnm⟩ ls hl hP hK A hE hA hD hS
  have hown : s.vm.findClass RX2 = some m.cls := hown
  have hl : lv_has ls 3 [(0, .ref xa_bad), (1, .int wh), (2, .int pl)] := hl
  obtain ⟨H, hH⟩ : ∃ H, H = s.heap := ⟨_, rfl⟩
  obtain ⟨locs, hlo⟩ : ∃ L : List Loc, L = [] := ⟨_, rfl⟩
  rw [← hH] at hP
  have hS : va_S A s.heap H locs := by rw [hH, hlo]; exact va_S.rf
  have hgo : W p l e (zR 1 0 0) s m ([.ref xa_bad, .int wh, .int pl] : List Value).toArray below meth c H locs 0 0 (MQ below (zQm G (True) (some (.ref xa_bad)) (bW_ G xa_bad b_v0 b_v1 b_v2 b_v3 b_v4 b_v5 ((bf_at wh pl).1) ((bf_at wh pl).2)) A) ([.ref xa_bad, .int wh, .int pl] : List Value).toArray s 0 0 A) (F0 m 0 ls []) := ?_
  · rw [hH, hlo] at hgo; exact hgo
  clear hH hlo
  refine lv_aload_n hx hb dX2_at_0 rfl (lv_at hl 0 rfl) ?_
  refine lv_iload_n hx hb dX2_at_1 rfl (lv_at hl 1 rfl) ?_
  refine va_put (D := G.1) (ci := 2) (v := .int wh) (ty := .int) (C := RX2) (T := TX2) (N := 8) hx hb hts in_X2 tyX2 tyX2_ok nmX2 hown hK.1 hP hD hS 0 rfl rfl 6 (Nat.le_of_ble_eq_true rfl) (hts _ q232) (fun _ h => h) rfl (tyX2_ok 6 (Nat.le_of_ble_eq_true rfl)) rfl rfl (Nat.le_of_ble_eq_true rfl) dX2_at_2 (fun H locs hP hD hS => ?_)
  have hP : va_P G.1 zcl (bW_ G xa_bad b_v0 b_v1 b_v2 b_v3 b_v4 b_v5 wh b_place) H := hP
  have hD : va_D A (bW_ G xa_bad b_v0 b_v1 b_v2 b_v3 b_v4 b_v5 wh b_place) := hD
  refine lv_aload_n hx hb dX2_at_5 rfl (lv_at hl 0 rfl) ?_
  refine lv_iload_n hx hb dX2_at_6 rfl (lv_at hl 2 rfl) ?_
  refine va_put (D := G.1) (ci := 2) (v := .int pl) (ty := .int) (C := RX2) (T := TX2) (N := 8) hx hb hts in_X2 tyX2 tyX2_ok nmX2 hown hK.1 hP hD hS 0 rfl rfl 7 (Nat.le_of_ble_eq_true rfl) (hts _ q234) (fun _ h => h) rfl (tyX2_ok 7 (Nat.le_of_ble_eq_true rfl)) rfl rfl (Nat.le_of_ble_eq_true rfl) dX2_at_7 (fun H locs hP hD hS => ?_)
  have hP : va_P G.1 zcl (bW_ G xa_bad b_v0 b_v1 b_v2 b_v3 b_v4 b_v5 wh pl) H := hP
  have hD : va_D A (bW_ G xa_bad b_v0 b_v1 b_v2 b_v3 b_v4 b_v5 wh pl) := hD
  refine lv_aload_n hx hb dX2_at_10 rfl (lv_at hl 0 rfl) ?_
  have e_ : bf_at wh pl = (wh, pl) := by rw [bf_at]
  exact zr_ma hx hb hr hlocks hP hD hS dX2_at_11 rfl (by rw [e_]) trivial
def rf_isLetter (rz : Nat) (xtape : Nat → Int32) (kk : Nat) : Bool :=
  (if rz ≤ kk then
    false
  else
    (if (xtape kk) < 97 then
      false
    else
      (if 122 < (xtape kk) then
        false
      else
        true)))
theorem hd_X8_isLetter : yX8_isLetter.cls = RX8 ∧ yX8_isLetter.cls ≠ "java/lang/invoke/MethodHandle" ∧ yX8_isLetter.cls ≠ "java/lang/invoke/VarHandle" ∧ (parseMethodDescriptor yX8_isLetter.desc).map (fun d => d.parameters.length) = some 1 := by decide +kernel
set_option maxHeartbeats 4000000 in
set_option maxRecDepth 100000 in
theorem mt_rf_isLetter (l : Launch) (G : zG) (rA : Nat) (rz : Nat) (ra : Nat) (rb : Nat) (r_sort : Int32) (r_number : Int32) (r_steps : Int32) (r_picture : Int32) (xA : Nat) (xa_trays : Nat) (xa_tape : Nat) (x_taped : Int32) (x_faultKind : Int32) (x_faultAt : Int32) (xa_bad : Nat) (xa_refused : Nat) (x_status : Int32) (x_above : Int64) (x_under : Int64) (nA : Nat) (xa_marks : Nat) (x_markMany : Int32) (xa_pictures : Nat) (x_lead : Int32) (x_round : Int32) (xa_ways : Nat) (x_bestSet : Int32) (x_bestMany : Int32) (x_left : Int32) (xa_aside : Nat) (xa_last : Nat) (x_hasLived : Bool) (xtape : Nat → Int32) (b_v0 : Value) (b_v1 : Value) (b_v2 : Value) (b_v3 : Value) (b_v4 : Value) (b_v5 : Value) (b_kind : Int32) (b_place : Int32) (kk : Nat) (hrz : rz ≤ 900) (hkk : kk < 2 ^ 31) : Met l yX8_isLetter (ws_ yX8_isLetter cX8_isLetter 2 (some .boolean)) (zR 1 0 0) (zPo G [.ref rA, .int (nI kk)] (rW_ G rA (nI rz) (nI ra) (nI rb) r_sort r_number r_steps r_picture xA xa_trays xa_tape x_taped x_faultKind x_faultAt xa_bad xa_refused x_status x_above x_under nA xa_marks x_markMany xa_pictures x_lead x_round xa_ways x_bestSet x_bestMany x_left xa_aside xa_last x_hasLived xtape b_v0 b_v1 b_v2 b_v3 b_v4 b_v5 b_kind b_place)) (k2_QcV (.int (zb (rf_isLetter rz xtape kk)))) 0 0 (fun _ => False) := by
  refine zr_entO (by decide) (Nat.le_of_ble_eq_true rfl) ?_
  intro p e s m below meth c ⟨hx, hb, hr, hml, hown, hts, hlocks, hnm⟩ ls hl hP hK hE
  have hown : s.vm.findClass RX8 = some m.cls := hown
  have hl : lv_has ls 2 [(0, .ref rA), (1, .int (nI kk))] := hl
  refine lv_iload_n hx hb dX8_isLetter_0 rfl (lv_at hl 1 rfl) ?_
  refine lv_aload_n hx hb dX8_isLetter_1 rfl (lv_at hl 0 rfl) ?_
  refine va_get (D := G.1) (ci := 8) (v := .int (nI rz)) (C := RX8) (T := TX8) (N := 8) hx hb hts in_X8 hown hK.1 hP 0 rfl rfl 0 (Nat.le_of_ble_eq_true rfl) (hts _ q649) (fun _ h => h) rfl dX8_isLetter_2 ?_
  refine zr_ge kk rz (by omega) (by omega) (tgt := 40) hx hb dX8_isLetter_5 (by decide) (fun c_1 => ?_) (fun c_1 => ?_)
  · refine lv_iconst (v := 0) hx hb dX8_isLetter_40 (by decide) ?_
    have e_ : rf_isLetter rz xtape kk = false := by rw [rf_isLetter, if_pos c_1]
    exact zr_oz hx hb hr hlocks dX8_isLetter_41 rfl (congrArg (fun z => Value.int (zb z)) e_)
  · refine lv_aload_n hx hb dX8_isLetter_8 rfl (lv_at hl 0 rfl) ?_
    refine va_get (D := G.1) (ci := 8) (v := .ref xA) (C := RX8) (T := TX8) (N := 8) hx hb hts in_X8 hown hK.1 hP 0 rfl rfl 7 (Nat.le_of_ble_eq_true rfl) (hts _ q658) (fun _ h => h) rfl dX8_isLetter_9 ?_
    refine va_getN (D := G.1) (ci := 0) (v := .ref xa_tape) (C := RX0) (T := TX0) (N := 23) hx hb hts in_X0 hown hK.1 hP 1 rfl rfl 1 (Nat.le_of_ble_eq_true rfl) ((hK.2.1.1 _ (List.mem_of_getElem? (i := 52) rfl)).use rfl) (fun _ h => h) rfl dX8_isLetter_12 ?_
    refine lv_iload_n hx hb dX8_isLetter_15 rfl (lv_at hl 1 rfl) ?_
    refine zr_bald kk (v := xtape kk) hx hb hK hP 2 rfl rfl (Nat.le_of_ble_eq_true rfl) rfl (by omega) rfl dX8_isLetter_16 ?_
    refine lv_bipush (v := 97) hx hb dX8_isLetter_17 (by decide) ?_
    refine lv_icmp_lt (tgt := 40) hx hb dX8_isLetter_19 (by decide) (fun c_2 => ?_) (fun c_2 => ?_)
    · refine lv_iconst (v := 0) hx hb dX8_isLetter_40 (by decide) ?_
      have e_ : rf_isLetter rz xtape kk = false := by rw [rf_isLetter, if_neg c_1, if_pos c_2]
      exact zr_oz hx hb hr hlocks dX8_isLetter_41 rfl (congrArg (fun z => Value.int (zb z)) e_)
    · refine lv_aload_n hx hb dX8_isLetter_22 rfl (lv_at hl 0 rfl) ?_
      refine va_get (D := G.1) (ci := 8) (v := .ref xA) (C := RX8) (T := TX8) (N := 8) hx hb hts in_X8 hown hK.1 hP 0 rfl rfl 7 (Nat.le_of_ble_eq_true rfl) (hts _ q658) (fun _ h => h) rfl dX8_isLetter_23 ?_
      refine va_getN (D := G.1) (ci := 0) (v := .ref xa_tape) (C := RX0) (T := TX0) (N := 23) hx hb hts in_X0 hown hK.1 hP 1 rfl rfl 1 (Nat.le_of_ble_eq_true rfl) ((hK.2.1.1 _ (List.mem_of_getElem? (i := 52) rfl)).use rfl) (fun _ h => h) rfl dX8_isLetter_26 ?_
      refine lv_iload_n hx hb dX8_isLetter_29 rfl (lv_at hl 1 rfl) ?_
      refine zr_bald kk (v := xtape kk) hx hb hK hP 2 rfl rfl (Nat.le_of_ble_eq_true rfl) rfl (by omega) rfl dX8_isLetter_30 ?_
      refine lv_bipush (v := 122) hx hb dX8_isLetter_31 (by decide) ?_
      refine lv_icmp_gt (tgt := 40) hx hb dX8_isLetter_33 (by decide) (fun c_3 => ?_) (fun c_3 => ?_)
      · refine lv_iconst (v := 0) hx hb dX8_isLetter_40 (by decide) ?_
        have e_ : rf_isLetter rz xtape kk = false := by rw [rf_isLetter, if_neg c_1, if_neg c_2, if_pos c_3]
        exact zr_oz hx hb hr hlocks dX8_isLetter_41 rfl (congrArg (fun z => Value.int (zb z)) e_)
      · refine lv_iconst (v := 1) hx hb dX8_isLetter_36 (by decide) ?_
        refine lv_goto (tgt := 41) hx hb dX8_isLetter_37 (by decide) ?_
        have e_ : rf_isLetter rz xtape kk = true := by rw [rf_isLetter, if_neg c_1, if_neg c_2, if_neg c_3]
        exact zr_oz hx hb hr hlocks dX8_isLetter_41 rfl (congrArg (fun z => Value.int (zb z)) e_)
theorem isLetter_lt {rz kk : Nat} {xtape : Nat → Int32} (h : rf_isLetter rz xtape kk = true) : kk < rz := by
  unfold rf_isLetter at h
  split at h
  · cases h
  · omega
def rf_isDigit (rz : Nat) (xtape : Nat → Int32) (kk : Nat) : Bool :=
  (if rz ≤ kk then
    false
  else
    (if (xtape kk) < 48 then
      false
    else
      (if 57 < (xtape kk) then
        false
      else
        true)))
theorem hd_X8_isDigit : yX8_isDigit.cls = RX8 ∧ yX8_isDigit.cls ≠ "java/lang/invoke/MethodHandle" ∧ yX8_isDigit.cls ≠ "java/lang/invoke/VarHandle" ∧ (parseMethodDescriptor yX8_isDigit.desc).map (fun d => d.parameters.length) = some 1 := by decide +kernel
set_option maxHeartbeats 4000000 in
set_option maxRecDepth 100000 in
theorem mt_rf_isDigit (l : Launch) (G : zG) (rA : Nat) (rz : Nat) (ra : Nat) (rb : Nat) (r_sort : Int32) (r_number : Int32) (r_steps : Int32) (r_picture : Int32) (xA : Nat) (xa_trays : Nat) (xa_tape : Nat) (x_taped : Int32) (x_faultKind : Int32) (x_faultAt : Int32) (xa_bad : Nat) (xa_refused : Nat) (x_status : Int32) (x_above : Int64) (x_under : Int64) (nA : Nat) (xa_marks : Nat) (x_markMany : Int32) (xa_pictures : Nat) (x_lead : Int32) (x_round : Int32) (xa_ways : Nat) (x_bestSet : Int32) (x_bestMany : Int32) (x_left : Int32) (xa_aside : Nat) (xa_last : Nat) (x_hasLived : Bool) (xtape : Nat → Int32) (b_v0 : Value) (b_v1 : Value) (b_v2 : Value) (b_v3 : Value) (b_v4 : Value) (b_v5 : Value) (b_kind : Int32) (b_place : Int32) (kk : Nat) (hrz : rz ≤ 900) (hkk : kk < 2 ^ 31) : Met l yX8_isDigit (ws_ yX8_isDigit cX8_isDigit 2 (some .boolean)) (zR 1 0 0) (zPo G [.ref rA, .int (nI kk)] (rW_ G rA (nI rz) (nI ra) (nI rb) r_sort r_number r_steps r_picture xA xa_trays xa_tape x_taped x_faultKind x_faultAt xa_bad xa_refused x_status x_above x_under nA xa_marks x_markMany xa_pictures x_lead x_round xa_ways x_bestSet x_bestMany x_left xa_aside xa_last x_hasLived xtape b_v0 b_v1 b_v2 b_v3 b_v4 b_v5 b_kind b_place)) (k2_QcV (.int (zb (rf_isDigit rz xtape kk)))) 0 0 (fun _ => False) := by
  refine zr_entO (by decide) (Nat.le_of_ble_eq_true rfl) ?_
  intro p e s m below meth c ⟨hx, hb, hr, hml, hown, hts, hlocks, hnm⟩ ls hl hP hK hE
  have hown : s.vm.findClass RX8 = some m.cls := hown
  have hl : lv_has ls 2 [(0, .ref rA), (1, .int (nI kk))] := hl
  refine lv_iload_n hx hb dX8_isDigit_0 rfl (lv_at hl 1 rfl) ?_
  refine lv_aload_n hx hb dX8_isDigit_1 rfl (lv_at hl 0 rfl) ?_
  refine va_get (D := G.1) (ci := 8) (v := .int (nI rz)) (C := RX8) (T := TX8) (N := 8) hx hb hts in_X8 hown hK.1 hP 0 rfl rfl 0 (Nat.le_of_ble_eq_true rfl) (hts _ q649) (fun _ h => h) rfl dX8_isDigit_2 ?_
  refine zr_ge kk rz (by omega) (by omega) (tgt := 40) hx hb dX8_isDigit_5 (by decide) (fun c_1 => ?_) (fun c_1 => ?_)
  · refine lv_iconst (v := 0) hx hb dX8_isDigit_40 (by decide) ?_
    have e_ : rf_isDigit rz xtape kk = false := by rw [rf_isDigit, if_pos c_1]
    exact zr_oz hx hb hr hlocks dX8_isDigit_41 rfl (congrArg (fun z => Value.int (zb z)) e_)
  · refine lv_aload_n hx hb dX8_isDigit_8 rfl (lv_at hl 0 rfl) ?_
    refine va_get (D := G.1) (ci := 8) (v := .ref xA) (C := RX8) (T := TX8) (N := 8) hx hb hts in_X8 hown hK.1 hP 0 rfl rfl 7 (Nat.le_of_ble_eq_true rfl) (hts _ q658) (fun _ h => h) rfl dX8_isDigit_9 ?_
    refine va_getN (D := G.1) (ci := 0) (v := .ref xa_tape) (C := RX0) (T := TX0) (N := 23) hx hb hts in_X0 hown hK.1 hP 1 rfl rfl 1 (Nat.le_of_ble_eq_true rfl) ((hK.2.1.1 _ (List.mem_of_getElem? (i := 52) rfl)).use rfl) (fun _ h => h) rfl dX8_isDigit_12 ?_
    refine lv_iload_n hx hb dX8_isDigit_15 rfl (lv_at hl 1 rfl) ?_
    refine zr_bald kk (v := xtape kk) hx hb hK hP 2 rfl rfl (Nat.le_of_ble_eq_true rfl) rfl (by omega) rfl dX8_isDigit_16 ?_
    refine lv_bipush (v := 48) hx hb dX8_isDigit_17 (by decide) ?_
    refine lv_icmp_lt (tgt := 40) hx hb dX8_isDigit_19 (by decide) (fun c_2 => ?_) (fun c_2 => ?_)
    · refine lv_iconst (v := 0) hx hb dX8_isDigit_40 (by decide) ?_
      have e_ : rf_isDigit rz xtape kk = false := by rw [rf_isDigit, if_neg c_1, if_pos c_2]
      exact zr_oz hx hb hr hlocks dX8_isDigit_41 rfl (congrArg (fun z => Value.int (zb z)) e_)
    · refine lv_aload_n hx hb dX8_isDigit_22 rfl (lv_at hl 0 rfl) ?_
      refine va_get (D := G.1) (ci := 8) (v := .ref xA) (C := RX8) (T := TX8) (N := 8) hx hb hts in_X8 hown hK.1 hP 0 rfl rfl 7 (Nat.le_of_ble_eq_true rfl) (hts _ q658) (fun _ h => h) rfl dX8_isDigit_23 ?_
      refine va_getN (D := G.1) (ci := 0) (v := .ref xa_tape) (C := RX0) (T := TX0) (N := 23) hx hb hts in_X0 hown hK.1 hP 1 rfl rfl 1 (Nat.le_of_ble_eq_true rfl) ((hK.2.1.1 _ (List.mem_of_getElem? (i := 52) rfl)).use rfl) (fun _ h => h) rfl dX8_isDigit_26 ?_
      refine lv_iload_n hx hb dX8_isDigit_29 rfl (lv_at hl 1 rfl) ?_
      refine zr_bald kk (v := xtape kk) hx hb hK hP 2 rfl rfl (Nat.le_of_ble_eq_true rfl) rfl (by omega) rfl dX8_isDigit_30 ?_
      refine lv_bipush (v := 57) hx hb dX8_isDigit_31 (by decide) ?_
      refine lv_icmp_gt (tgt := 40) hx hb dX8_isDigit_33 (by decide) (fun c_3 => ?_) (fun c_3 => ?_)
      · refine lv_iconst (v := 0) hx hb dX8_isDigit_40 (by decide) ?_
        have e_ : rf_isDigit rz xtape kk = false := by rw [rf_isDigit, if_neg c_1, if_neg c_2, if_pos c_3]
        exact zr_oz hx hb hr hlocks dX8_isDigit_41 rfl (congrArg (fun z => Value.int (zb z)) e_)
      · refine lv_iconst (v := 1) hx hb dX8_isDigit_36 (by decide) ?_
        refine lv_goto (tgt := 41) hx hb dX8_isDigit_37 (by decide) ?_
        have e_ : rf_isDigit rz xtape kk = true := by rw [rf_isDigit, if_neg c_1, if_neg c_2, if_neg c_3]
        exact zr_oz hx hb hr hlocks dX8_isDigit_41 rfl (congrArg (fun z => Value.int (zb z)) e_)
theorem isDigitX_lt {rz kk : Nat} {xtape : Nat → Int32} (h : rf_isDigit rz xtape kk = true) : kk < rz := by
  unfold rf_isDigit at h
  split at h
  · cases h
  · omega
