def rf_isSign (ra : Nat) (r_sort : Int32) (xtape : Nat → Int32) (ch : Int32) : Bool :=
  (if r_sort = 3 then
    (if (xtape ra) = ch then
      true
    else
      false)
  else
    false)
theorem hd_X8_isSign : yX8_isSign.cls = RX8 ∧ yX8_isSign.cls ≠ "java/lang/invoke/MethodHandle" ∧ yX8_isSign.cls ≠ "java/lang/invoke/VarHandle" ∧ (parseMethodDescriptor yX8_isSign.desc).map (fun d => d.parameters.length) = some 1 := by decide +kernel
set_option maxHeartbeats 4000000 in
set_option maxRecDepth 100000 in
theorem mt_rf_isSign (l : Launch) (G : zG) (rA : Nat) (rz : Nat) (ra : Nat) (rb : Nat) (r_sort : Int32) (r_number : Int32) (r_steps : Int32) (r_picture : Int32) (xA : Nat) (xa_trays : Nat) (xa_tape : Nat) (x_taped : Int32) (x_faultKind : Int32) (x_faultAt : Int32) (xa_bad : Nat) (xa_refused : Nat) (x_status : Int32) (x_above : Int64) (x_under : Int64) (nA : Nat) (xa_marks : Nat) (x_markMany : Int32) (xa_pictures : Nat) (x_lead : Int32) (x_round : Int32) (xa_ways : Nat) (x_bestSet : Int32) (x_bestMany : Int32) (x_left : Int32) (xa_aside : Nat) (xa_last : Nat) (x_hasLived : Bool) (xtape : Nat → Int32) (b_v0 : Value) (b_v1 : Value) (b_v2 : Value) (b_v3 : Value) (b_v4 : Value) (b_v5 : Value) (b_kind : Int32) (b_place : Int32) (ch : Int32) (hrz : rz ≤ 900) (hab : ra ≤ rb) (hbz : rb ≤ rz) (hso : r_sort = 0 ∨ ra < rb) : Met l yX8_isSign (ws_ yX8_isSign cX8_isSign 2 (some .boolean)) (zR 1 0 0) (zPo G [.ref rA, .int ch] (rW_ G rA (nI rz) (nI ra) (nI rb) r_sort r_number r_steps r_picture xA xa_trays xa_tape x_taped x_faultKind x_faultAt xa_bad xa_refused x_status x_above x_under nA xa_marks x_markMany xa_pictures x_lead x_round xa_ways x_bestSet x_bestMany x_left xa_aside xa_last x_hasLived xtape b_v0 b_v1 b_v2 b_v3 b_v4 b_v5 b_kind b_place)) (k2_QcV (.int (zb (rf_isSign ra r_sort xtape ch)))) 0 0 (fun _ => False) := by
  refine zr_entO (by decide) (Nat.le_of_ble_eq_true rfl) ?_
  intro p e s m below meth c ⟨hx, hb, hr, hml, hown, hts, hlocks, hnm⟩ ls hl hP hK hE
  have hown : s.vm.findClass RX8 = some m.cls := hown
  have hl : lv_has ls 2 [(0, .ref rA), (1, .int ch)] := hl
  refine lv_aload_n hx hb dX8_isSign_0 rfl (lv_at hl 0 rfl) ?_
  refine va_get (D := G.1) (ci := 8) (v := .int r_sort) (C := RX8) (T := TX8) (N := 8) hx hb hts in_X8 hown hK.1 hP 0 rfl rfl 3 (Nat.le_of_ble_eq_true rfl) (hts _ q652) (fun _ h => h) rfl dX8_isSign_1 ?_
  refine lv_iconst (v := 3) hx hb dX8_isSign_4 (by decide) ?_
  refine lv_icmp_ne (tgt := 28) hx hb dX8_isSign_5 (by decide) (fun c_1 => ?_) (fun c_1 => ?_)
  · refine lv_iconst (v := 0) hx hb dX8_isSign_28 (by decide) ?_
    have e_ : rf_isSign ra r_sort xtape ch = false := by rw [rf_isSign, if_neg c_1]
    exact zr_oz hx hb hr hlocks dX8_isSign_29 rfl (congrArg (fun z => Value.int (zb z)) e_)
  · have hal : ra < rb := hso.resolve_left (by rw [c_1]; decide)
    refine lv_aload_n hx hb dX8_isSign_8 rfl (lv_at hl 0 rfl) ?_
    refine va_get (D := G.1) (ci := 8) (v := .ref xA) (C := RX8) (T := TX8) (N := 8) hx hb hts in_X8 hown hK.1 hP 0 rfl rfl 7 (Nat.le_of_ble_eq_true rfl) (hts _ q658) (fun _ h => h) rfl dX8_isSign_9 ?_
    refine va_getN (D := G.1) (ci := 0) (v := .ref xa_tape) (C := RX0) (T := TX0) (N := 23) hx hb hts in_X0 hown hK.1 hP 1 rfl rfl 1 (Nat.le_of_ble_eq_true rfl) ((hK.2.1.1 _ (List.mem_of_getElem? (i := 52) rfl)).use rfl) (fun _ h => h) rfl dX8_isSign_12 ?_
    refine lv_aload_n hx hb dX8_isSign_15 rfl (lv_at hl 0 rfl) ?_
    refine va_get (D := G.1) (ci := 8) (v := .int (nI ra)) (C := RX8) (T := TX8) (N := 8) hx hb hts in_X8 hown hK.1 hP 0 rfl rfl 1 (Nat.le_of_ble_eq_true rfl) (hts _ q650) (fun _ h => h) rfl dX8_isSign_16 ?_
    refine zr_bald ra (v := xtape ra) hx hb hK hP 2 rfl rfl (Nat.le_of_ble_eq_true rfl) rfl (by omega) rfl dX8_isSign_19 ?_
    refine lv_iload_n hx hb dX8_isSign_20 rfl (lv_at hl 1 rfl) ?_
    refine lv_icmp_ne (tgt := 28) hx hb dX8_isSign_21 (by decide) (fun c_2 => ?_) (fun c_2 => ?_)
    · refine lv_iconst (v := 0) hx hb dX8_isSign_28 (by decide) ?_
      have e_ : rf_isSign ra r_sort xtape ch = false := by rw [rf_isSign, if_pos c_1, if_neg c_2]
      exact zr_oz hx hb hr hlocks dX8_isSign_29 rfl (congrArg (fun z => Value.int (zb z)) e_)
    · refine lv_iconst (v := 1) hx hb dX8_isSign_24 (by decide) ?_
      refine lv_goto (tgt := 29) hx hb dX8_isSign_25 (by decide) ?_
      have e_ : rf_isSign ra r_sort xtape ch = true := by rw [rf_isSign, if_pos c_1, if_pos c_2]
      exact zr_oz hx hb hr hlocks dX8_isSign_29 rfl (congrArg (fun z => Value.int (zb z)) e_)
def rf_wrong (ra : Nat) (r_sort : Int32) : Int32 × Int32 :=
  (if r_sort = 4 then
    zlet (bf_at 1 (nI ra)) (fun t_3 =>
    (t_3.1, t_3.2))
  else
    zlet (bf_at 2 (nI ra)) (fun t_2 =>
    (t_2.1, t_2.2)))
theorem hd_X8_wrong : yX8_wrong.cls = RX8 ∧ yX8_wrong.cls ≠ "java/lang/invoke/MethodHandle" ∧ yX8_wrong.cls ≠ "java/lang/invoke/VarHandle" ∧ (parseMethodDescriptor yX8_wrong.desc).map (fun d => d.parameters.length) = some 0 := by decide +kernel
set_option maxHeartbeats 4000000 in
set_option maxRecDepth 100000 in
theorem mt_rf_wrong (l : Launch) (G : zG) (rA : Nat) (rz : Nat) (ra : Nat) (rb : Nat) (r_sort : Int32) (r_number : Int32) (r_steps : Int32) (r_picture : Int32) (xA : Nat) (xa_trays : Nat) (xa_tape : Nat) (x_taped : Int32) (x_faultKind : Int32) (x_faultAt : Int32) (xa_bad : Nat) (xa_refused : Nat) (x_status : Int32) (x_above : Int64) (x_under : Int64) (nA : Nat) (xa_marks : Nat) (x_markMany : Int32) (xa_pictures : Nat) (x_lead : Int32) (x_round : Int32) (xa_ways : Nat) (x_bestSet : Int32) (x_bestMany : Int32) (x_left : Int32) (xa_aside : Nat) (xa_last : Nat) (x_hasLived : Bool) (xtape : Nat → Int32) (b_v0 : Value) (b_v1 : Value) (b_v2 : Value) (b_v3 : Value) (b_v4 : Value) (b_v5 : Value) (b_kind : Int32) (b_place : Int32) (hrz : rz ≤ 900) (hab : ra ≤ rb) (hbz : rb ≤ rz) (hso : r_sort = 0 ∨ ra < rb) (sz : Nat) : Met l yX8_wrong (ws_ yX8_wrong cX8_wrong 1 (some (.object "WindowHill$Bad"))) (zR 2 0 0) (zPm G sz [.ref rA] (rW_ G rA (nI rz) (nI ra) (nI rb) r_sort r_number r_steps r_picture xA xa_trays xa_tape x_taped x_faultKind x_faultAt xa_bad xa_refused x_status x_above x_under nA xa_marks x_markMany xa_pictures x_lead x_round xa_ways x_bestSet x_bestMany x_left xa_aside xa_last x_hasLived xtape b_v0 b_v1 b_v2 b_v3 b_v4 b_v5 b_kind b_place)) (zQm G (True) (some (.ref xa_bad)) (rW_ G rA (nI rz) (nI ra) (nI rb) r_sort r_number r_steps r_picture xA xa_trays xa_tape x_taped x_faultKind x_faultAt xa_bad xa_refused x_status x_above x_under nA xa_marks x_markMany xa_pictures x_lead x_round xa_ways x_bestSet x_bestMany x_left xa_aside xa_last x_hasLived xtape b_v0 b_v1 b_v2 b_v3 b_v4 b_v5 ((rf_wrong ra r_sort).1) ((rf_wrong ra r_sort).2)) (va_A (rW_ G rA (nI rz) (nI ra) (nI rb) r_sort r_number r_steps r_picture xA xa_trays xa_tape x_taped x_faultKind x_faultAt xa_bad xa_refused x_status x_above x_under nA xa_marks x_markMany xa_pictures x_lead x_round xa_ways x_bestSet x_bestMany x_left xa_aside xa_last x_hasLived xtape b_v0 b_v1 b_v2 b_v3 b_v4 b_v5 b_kind b_place) sz)) 0 0 (va_A (rW_ G rA (nI rz) (nI ra) (nI rb) r_sort r_number r_steps r_picture xA xa_trays xa_tape x_taped x_faultKind x_faultAt xa_bad xa_refused x_status x_above x_under nA xa_marks x_markMany xa_pictures x_lead x_round xa_ways x_bestSet x_bestMany x_left xa_aside xa_last x_hasLived xtape b_v0 b_v1 b_v2 b_v3 b_v4 b_v5 b_kind b_place) sz) := by
  refine zr_entM (by decide) (Nat.le_of_ble_eq_true rfl) ?_
  intro p e s m below meth c ⟨hx, hb, hr, hml, hown, hts, hlocks, hnm⟩ ls hl hP hK A hE hA hD hS
  have hown : s.vm.findClass RX8 = some m.cls := hown
  have hl : lv_has ls 1 [(0, .ref rA)] := hl
  obtain ⟨H, hH⟩ : ∃ H, H = s.heap := ⟨_, rfl⟩
  obtain ⟨locs, hlo⟩ : ∃ L : List Loc, L = [] := ⟨_, rfl⟩
  rw [← hH] at hP
  have hS : va_S A s.heap H locs := by rw [hH, hlo]; exact va_S.rf
  have hgo : W p l e (zR 2 0 0) s m ([.ref rA] : List Value).toArray below meth c H locs 0 0 (MQ below (zQm G (True) (some (.ref xa_bad)) (rW_ G rA (nI rz) (nI ra) (nI rb) r_sort r_number r_steps r_picture xA xa_trays xa_tape x_taped x_faultKind x_faultAt xa_bad xa_refused x_status x_above x_under nA xa_marks x_markMany xa_pictures x_lead x_round xa_ways x_bestSet x_bestMany x_left xa_aside xa_last x_hasLived xtape b_v0 b_v1 b_v2 b_v3 b_v4 b_v5 ((rf_wrong ra r_sort).1) ((rf_wrong ra r_sort).2)) A) ([.ref rA] : List Value).toArray s 0 0 A) (F0 m 0 ls []) := ?_
  · rw [hH, hlo] at hgo; exact hgo
  clear hH hlo
  refine lv_aload_n hx hb dX8_wrong_0 rfl (lv_at hl 0 rfl) ?_
  refine va_get (D := G.1) (ci := 8) (v := .ref xA) (C := RX8) (T := TX8) (N := 8) hx hb hts in_X8 hown hK.1 hP 0 rfl rfl 7 (Nat.le_of_ble_eq_true rfl) (hts _ q658) (fun _ h => h) rfl dX8_wrong_1 ?_
  refine va_getN (D := G.1) (ci := 0) (v := .ref xa_bad) (C := RX0) (T := TX0) (N := 23) hx hb hts in_X0 hown hK.1 hP 1 rfl rfl 5 (Nat.le_of_ble_eq_true rfl) ((hK.2.1.1 _ (List.mem_of_getElem? (i := 53) rfl)).use rfl) (fun _ h => h) rfl dX8_wrong_4 ?_
  refine lv_aload_n hx hb dX8_wrong_7 rfl (lv_at hl 0 rfl) ?_
  refine va_get (D := G.1) (ci := 8) (v := .int r_sort) (C := RX8) (T := TX8) (N := 8) hx hb hts in_X8 hown hK.1 hP 0 rfl rfl 3 (Nat.le_of_ble_eq_true rfl) (hts _ q652) (fun _ h => h) rfl dX8_wrong_8 ?_
  refine lv_iconst (v := 4) hx hb dX8_wrong_11 (by decide) ?_
  refine lv_icmp_ne (tgt := 19) hx hb dX8_wrong_12 (by decide) (fun c_1 => ?_) (fun c_1 => ?_)
  · refine lv_iconst (v := 2) hx hb dX8_wrong_19 (by decide) ?_
    refine lv_aload_n hx hb dX8_wrong_20 rfl (lv_at hl 0 rfl) ?_
    refine va_get (D := G.1) (ci := 8) (v := .int (nI ra)) (C := RX8) (T := TX8) (N := 8) hx hb hts in_X8 hown hK.1 hP 0 rfl rfl 1 (Nat.le_of_ble_eq_true rfl) (hts _ q650) (fun _ h => h) rfl dX8_wrong_21 ?_
    refine zr_muVs (F := bf_at 2 (nI ra)) (ff := fun t_2 => True) (rr := fun t_2 => some (.ref xa_bad)) (w1 := fun t_2 => (bW_ G xa_bad b_v0 b_v1 b_v2 b_v3 b_v4 b_v5 t_2.1 t_2.2)) (wn := fun t_2 => (rW_ G rA (nI rz) (nI ra) (nI rb) r_sort r_number r_steps r_picture xA xa_trays xa_tape x_taped x_faultKind x_faultAt xa_bad xa_refused x_status x_above x_under nA xa_marks x_markMany xa_pictures x_lead x_round xa_ways x_bestSet x_bestMany x_left xa_aside xa_last x_hasLived xtape b_v0 b_v1 b_v2 b_v3 b_v4 b_v5 t_2.1 t_2.2)) (wr := [(rA, .inr (8, [.int (nI rz), .int (nI ra), .int (nI rb), .int r_sort, .int r_number, .int r_steps, .int r_picture, .ref xA])), (xA, .inr (0, [.ref xa_trays, .ref xa_tape, .int x_taped, .int x_faultKind, .int x_faultAt, .ref xa_bad, .ref xa_refused, .int x_status, .long x_above, .long x_under, .ref nA, .ref xa_marks, .int x_markMany, .ref xa_pictures, .int x_lead, .int x_round, .ref xa_ways, .int x_bestSet, .int x_bestMany, .int x_left, .ref xa_aside, .ref xa_last, .int (zb x_hasLived)])), (xa_tape, .inl (G.2 2, 900, .inl xtape))]) [3] [0, 1, 2] [0, 1, 2, 3] rfl rfl rfl rfl (by decide) rfl (fun _ => rfl) ⟨hx, hb, hml, hown, hts⟩ (mt_bf_at l G xa_bad b_v0 b_v1 b_v2 b_v3 b_v4 b_v5 b_kind b_place 2 (nI ra) H.size) (cwV 2 hts (lw_V q741 q742 q743 q139 q744) rfl rfl rfl hd_X2_at ⟨(Nat.le_of_ble_eq_true rfl), (Nat.le_of_ble_eq_true rfl)⟩) hP hD hS hA hK hE 2 rfl rfl rfl hl.1 rfl (Nat.le_of_ble_eq_true rfl) dX8_wrong_24 ⟨Nat.le_refl _, Nat.le_refl _⟩ (fun t_2 ht_2 hft_2 H locs hP hD hS _ => ?_)
    refine W.eq (g2 := F0 m 27 ls [.ref xa_bad]) rfl ?_
    have e_ : rf_wrong ra r_sort = (t_2.1, t_2.2) := by rw [rf_wrong, if_neg c_1, zlet_eq ht_2]
    exact zr_ma hx hb hr hlocks hP hD hS dX8_wrong_27 rfl (by rw [e_]) trivial
  · refine lv_iconst (v := 1) hx hb dX8_wrong_15 (by decide) ?_
    refine lv_goto (tgt := 20) hx hb dX8_wrong_16 (by decide) ?_
    refine lv_aload_n hx hb dX8_wrong_20 rfl (lv_at hl 0 rfl) ?_
    refine va_get (D := G.1) (ci := 8) (v := .int (nI ra)) (C := RX8) (T := TX8) (N := 8) hx hb hts in_X8 hown hK.1 hP 0 rfl rfl 1 (Nat.le_of_ble_eq_true rfl) (hts _ q650) (fun _ h => h) rfl dX8_wrong_21 ?_
    refine zr_muVs (F := bf_at 1 (nI ra)) (ff := fun t_3 => True) (rr := fun t_3 => some (.ref xa_bad)) (w1 := fun t_3 => (bW_ G xa_bad b_v0 b_v1 b_v2 b_v3 b_v4 b_v5 t_3.1 t_3.2)) (wn := fun t_3 => (rW_ G rA (nI rz) (nI ra) (nI rb) r_sort r_number r_steps r_picture xA xa_trays xa_tape x_taped x_faultKind x_faultAt xa_bad xa_refused x_status x_above x_under nA xa_marks x_markMany xa_pictures x_lead x_round xa_ways x_bestSet x_bestMany x_left xa_aside xa_last x_hasLived xtape b_v0 b_v1 b_v2 b_v3 b_v4 b_v5 t_3.1 t_3.2)) (wr := [(rA, .inr (8, [.int (nI rz), .int (nI ra), .int (nI rb), .int r_sort, .int r_number, .int r_steps, .int r_picture, .ref xA])), (xA, .inr (0, [.ref xa_trays, .ref xa_tape, .int x_taped, .int x_faultKind, .int x_faultAt, .ref xa_bad, .ref xa_refused, .int x_status, .long x_above, .long x_under, .ref nA, .ref xa_marks, .int x_markMany, .ref xa_pictures, .int x_lead, .int x_round, .ref xa_ways, .int x_bestSet, .int x_bestMany, .int x_left, .ref xa_aside, .ref xa_last, .int (zb x_hasLived)])), (xa_tape, .inl (G.2 2, 900, .inl xtape))]) [3] [0, 1, 2] [0, 1, 2, 3] rfl rfl rfl rfl (by decide) rfl (fun _ => rfl) ⟨hx, hb, hml, hown, hts⟩ (mt_bf_at l G xa_bad b_v0 b_v1 b_v2 b_v3 b_v4 b_v5 b_kind b_place 1 (nI ra) H.size) (cwV 2 hts (lw_V q741 q742 q743 q139 q744) rfl rfl rfl hd_X2_at ⟨(Nat.le_of_ble_eq_true rfl), (Nat.le_of_ble_eq_true rfl)⟩) hP hD hS hA hK hE 2 rfl rfl rfl hl.1 rfl (Nat.le_of_ble_eq_true rfl) dX8_wrong_24 ⟨Nat.le_refl _, Nat.le_refl _⟩ (fun t_3 ht_3 hft_3 H locs hP hD hS _ => ?_)
    refine W.eq (g2 := F0 m 27 ls [.ref xa_bad]) rfl ?_
    have e_ : rf_wrong ra r_sort = (t_3.1, t_3.2) := by rw [rf_wrong, if_pos c_1, zlet_eq ht_3]
    exact zr_ma hx hb hr hlocks hP hD hS dX8_wrong_27 rfl (by rw [e_]) trivial
theorem isSignX_s {ra : Nat} {r_sort ch : Int32} {xtape : Nat → Int32} (h : rf_isSign ra r_sort xtape ch = true) : ¬ r_sort = 0 := by
  unfold rf_isSign at h
  split at h
  · rename_i q; rw [q]; decide
  · cases h
theorem isWordX_s {ra rb wi : Nat} {r_sort : Int32} {xtape : Nat → Int32} (h : rf_isWord ra rb r_sort xtape wi = true) : ¬ r_sort = 0 := by
  unfold rf_isWord at h
  split at h
  · rename_i q; rw [q]; decide
  · cases h
