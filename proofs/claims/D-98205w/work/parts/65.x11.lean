def xT_ (G : zG) (xa_tape : Nat) (xtape : Nat → Int32) : va_W := [(xa_tape, .inl (G.2 2, 900, .inl xtape))]
def xf_lay (tp : Nat) (xtape : Nat → Int32) (v : Int32) : Nat × (Nat → Int32) :=
  (tp + 4, upd (upd (upd (upd xtape tp (vp_nar .byte ((v >>> (24 &&& 31)).toInt8.toInt32))) (tp + 1) (vp_nar .byte ((v >>> (16 &&& 31)).toInt8.toInt32))) (tp + 2) (vp_nar .byte ((v >>> (8 &&& 31)).toInt8.toInt32))) (tp + 3) (vp_nar .byte ((v >>> (0 &&& 31)).toInt8.toInt32)))
theorem hd_X0_lay : yX0_lay.cls = RX0 ∧ yX0_lay.cls ≠ "java/lang/invoke/MethodHandle" ∧ yX0_lay.cls ≠ "java/lang/invoke/VarHandle" ∧ (parseMethodDescriptor yX0_lay.desc).map (fun d => d.parameters.length) = some 1 := by decide +kernel
set_option maxHeartbeats 4000000 in
set_option maxRecDepth 100000 in
theorem mt_xf_lay (l : Launch) (G : zG) (xA : Nat) (xa_trays : Nat) (xa_tape : Nat) (tp : Nat) (x_faultKind : Int32) (x_faultAt : Int32) (xa_bad : Nat) (xa_refused : Nat) (x_status : Int32) (x_above : Int64) (x_under : Int64) (nA : Nat) (xa_marks : Nat) (x_markMany : Int32) (xa_pictures : Nat) (x_lead : Int32) (x_round : Int32) (xa_ways : Nat) (x_bestSet : Int32) (x_bestMany : Int32) (x_left : Int32) (xa_aside : Nat) (xa_last : Nat) (x_hasLived : Bool) (uA : Nat) (n_year : Option Nat) (xtape : Nat → Int32) (v : Int32) (htp : tp + 4 ≤ 900) (sz : Nat) : Met l yX0_lay (ws_ yX0_lay cX0_lay 3 none) (zR 1 0 0) (zPm G sz [.ref xA, .int v] ((xA_ G xA xa_trays xa_tape (nI tp) x_faultKind x_faultAt xa_bad xa_refused x_status x_above x_under nA xa_marks x_markMany xa_pictures x_lead x_round xa_ways x_bestSet x_bestMany x_left xa_aside xa_last x_hasLived uA n_year) ++ (xT_ G xa_tape xtape))) (zQm G (True) none ((xA_ G xA xa_trays xa_tape (nI ((xf_lay tp xtape v).1)) x_faultKind x_faultAt xa_bad xa_refused x_status x_above x_under nA xa_marks x_markMany xa_pictures x_lead x_round xa_ways x_bestSet x_bestMany x_left xa_aside xa_last x_hasLived uA n_year) ++ (xT_ G xa_tape ((xf_lay tp xtape v).2))) (va_A ((xA_ G xA xa_trays xa_tape (nI tp) x_faultKind x_faultAt xa_bad xa_refused x_status x_above x_under nA xa_marks x_markMany xa_pictures x_lead x_round xa_ways x_bestSet x_bestMany x_left xa_aside xa_last x_hasLived uA n_year) ++ (xT_ G xa_tape xtape)) sz)) 0 0 (va_A ((xA_ G xA xa_trays xa_tape (nI tp) x_faultKind x_faultAt xa_bad xa_refused x_status x_above x_under nA xa_marks x_markMany xa_pictures x_lead x_round xa_ways x_bestSet x_bestMany x_left xa_aside xa_last x_hasLived uA n_year) ++ (xT_ G xa_tape xtape)) sz) := by
  refine zr_entM (by decide) (Nat.le_of_ble_eq_true rfl) ?_
  intro p e s m below meth c ⟨hx, hb, hr, hml, hown, hts, hlocks, hnm⟩ ls hl hP hK A hE hA hD hS
  have hown : s.vm.findClass RX0 = some m.cls := hown
  have hl : lv_has ls 3 [(0, .ref xA), (1, .int v)] := hl
  obtain ⟨H, hH⟩ : ∃ H, H = s.heap := ⟨_, rfl⟩
  obtain ⟨locs, hlo⟩ : ∃ L : List Loc, L = [] := ⟨_, rfl⟩
  rw [← hH] at hP
  have hS : va_S A s.heap H locs := by rw [hH, hlo]; exact va_S.rf
  have hgo : W p l e (zR 1 0 0) s m ([.ref xA, .int v] : List Value).toArray below meth c H locs 0 0 (MQ below (zQm G (True) none ((xA_ G xA xa_trays xa_tape (nI ((xf_lay tp xtape v).1)) x_faultKind x_faultAt xa_bad xa_refused x_status x_above x_under nA xa_marks x_markMany xa_pictures x_lead x_round xa_ways x_bestSet x_bestMany x_left xa_aside xa_last x_hasLived uA n_year) ++ (xT_ G xa_tape ((xf_lay tp xtape v).2))) A) ([.ref xA, .int v] : List Value).toArray s 0 0 A) (F0 m 0 ls []) := ?_
  · rw [hH, hlo] at hgo; exact hgo
  clear hH hlo
  refine lv_bipush (v := 24) hx hb dX0_lay_0 (by decide) ?_
  refine lv_istore_n (lv' := [(2, .int 24), (0, .ref xA), (1, .int v)]) hx hb dX0_lay_2 rfl hl (by decide) rfl (fun ls hl => ?_)
  refine lv_iload_n hx hb dX0_lay_3 rfl (lv_at hl 0 rfl) ?_
  refine lv_if_lt (tgt := 36) hx hb dX0_lay_4 (by decide) (fun z => absurd z (by decide)) (fun _ => ?_)
  refine lv_aload_n hx hb dX0_lay_7 rfl (lv_at hl 1 rfl) ?_
  refine va_get (D := G.1) (ci := 0) (v := .ref xa_tape) (C := RX0) (T := TX0) (N := 23) hx hb hts in_X0 hown hK.1 hP 0 rfl rfl 1 (Nat.le_of_ble_eq_true rfl) (hts _ q425) (fun _ h => h) rfl dX0_lay_8 ?_
  refine lv_aload_n hx hb dX0_lay_11 rfl (lv_at hl 1 rfl) ?_
  refine va_get (D := G.1) (ci := 0) (v := .int (nI tp)) (C := RX0) (T := TX0) (N := 23) hx hb hts in_X0 hown hK.1 hP 0 rfl rfl 2 (Nat.le_of_ble_eq_true rfl) (hts _ q426) (fun _ h => h) rfl dX0_lay_12 ?_
  refine lv_iload_n hx hb dX0_lay_15 rfl (lv_at hl 2 rfl) ?_
  refine lv_iload_n hx hb dX0_lay_16 rfl (lv_at hl 0 rfl) ?_
  refine lv_ishr hx hb dX0_lay_17 ?_
  refine lv_i2b hx hb dX0_lay_18 rfl ?_
  refine zr_bast tp (ws' := ((xA_ G xA xa_trays xa_tape (nI tp) x_faultKind x_faultAt xa_bad xa_refused x_status x_above x_under nA xa_marks x_markMany xa_pictures x_lead x_round xa_ways x_bestSet x_bestMany x_left xa_aside xa_last x_hasLived uA n_year) ++ (xT_ G xa_tape (upd xtape tp (vp_nar .byte ((v >>> (24 &&& 31)).toInt8.toInt32)))))) hx hb hK hP hD hS 2 rfl rfl (Nat.le_of_ble_eq_true rfl) rfl (by omega) rfl dX0_lay_19 (fun H locs hP hD hS => ?_)
  refine lv_aload_n hx hb dX0_lay_20 rfl (lv_at hl 1 rfl) ?_
  refine lv_dup hx hb dX0_lay_21 rfl ?_
  refine va_get (D := G.1) (ci := 0) (v := .int (nI tp)) (C := RX0) (T := TX0) (N := 23) hx hb hts in_X0 hown hK.1 hP 0 rfl rfl 2 (Nat.le_of_ble_eq_true rfl) (hts _ q426) (fun _ h => h) rfl dX0_lay_22 ?_
  refine lv_iconst (v := 1) hx hb dX0_lay_25 (by decide) ?_
  refine zr_iaddN tp 1 hx hb dX0_lay_26 ?_
  refine va_put (D := G.1) (ci := 0) (v := .int (nI (tp + 1))) (ty := .int) (C := RX0) (T := TX0) (N := 23) hx hb hts in_X0 tyX0 tyX0_ok nmX0 hown hK.1 hP hD hS 0 rfl rfl 2 (Nat.le_of_ble_eq_true rfl) (hts _ q426) (fun _ h => h) rfl (tyX0_ok 2 (Nat.le_of_ble_eq_true rfl)) rfl rfl (Nat.le_of_ble_eq_true rfl) dX0_lay_27 (fun H locs hP hD hS => ?_)
  have hP : va_P G.1 zcl ((xA_ G xA xa_trays xa_tape (nI (tp + 1)) x_faultKind x_faultAt xa_bad xa_refused x_status x_above x_under nA xa_marks x_markMany xa_pictures x_lead x_round xa_ways x_bestSet x_bestMany x_left xa_aside xa_last x_hasLived uA n_year) ++ (xT_ G xa_tape (upd xtape tp (vp_nar .byte ((v >>> (24 &&& 31)).toInt8.toInt32))))) H := hP
  have hD : va_D A ((xA_ G xA xa_trays xa_tape (nI (tp + 1)) x_faultKind x_faultAt xa_bad xa_refused x_status x_above x_under nA xa_marks x_markMany xa_pictures x_lead x_round xa_ways x_bestSet x_bestMany x_left xa_aside xa_last x_hasLived uA n_year) ++ (xT_ G xa_tape (upd xtape tp (vp_nar .byte ((v >>> (24 &&& 31)).toInt8.toInt32))))) := hD
  refine lv_iinc (v := 16) (lv' := [(2, .int 16), (0, .ref xA), (1, .int v)]) hx hb dX0_lay_30 hl (k := 0) rfl (by decide) (by decide) rfl (fun ls hl => ?_)
  refine lv_goto (tgt := 3) hx hb dX0_lay_33 (by decide) ?_
  refine lv_iload_n hx hb dX0_lay_3 rfl (lv_at hl 0 rfl) ?_
  refine lv_if_lt (tgt := 36) hx hb dX0_lay_4 (by decide) (fun z => absurd z (by decide)) (fun _ => ?_)
  refine lv_aload_n hx hb dX0_lay_7 rfl (lv_at hl 1 rfl) ?_
  refine va_get (D := G.1) (ci := 0) (v := .ref xa_tape) (C := RX0) (T := TX0) (N := 23) hx hb hts in_X0 hown hK.1 hP 0 rfl rfl 1 (Nat.le_of_ble_eq_true rfl) (hts _ q425) (fun _ h => h) rfl dX0_lay_8 ?_
  refine lv_aload_n hx hb dX0_lay_11 rfl (lv_at hl 1 rfl) ?_
  refine va_get (D := G.1) (ci := 0) (v := .int (nI (tp + 1))) (C := RX0) (T := TX0) (N := 23) hx hb hts in_X0 hown hK.1 hP 0 rfl rfl 2 (Nat.le_of_ble_eq_true rfl) (hts _ q426) (fun _ h => h) rfl dX0_lay_12 ?_
  refine lv_iload_n hx hb dX0_lay_15 rfl (lv_at hl 2 rfl) ?_
  refine lv_iload_n hx hb dX0_lay_16 rfl (lv_at hl 0 rfl) ?_
  refine lv_ishr hx hb dX0_lay_17 ?_
  refine lv_i2b hx hb dX0_lay_18 rfl ?_
  refine zr_bast (tp + 1) (ws' := ((xA_ G xA xa_trays xa_tape (nI (tp + 1)) x_faultKind x_faultAt xa_bad xa_refused x_status x_above x_under nA xa_marks x_markMany xa_pictures x_lead x_round xa_ways x_bestSet x_bestMany x_left xa_aside xa_last x_hasLived uA n_year) ++ (xT_ G xa_tape (upd (upd xtape tp (vp_nar .byte ((v >>> (24 &&& 31)).toInt8.toInt32))) (tp + 1) (vp_nar .byte ((v >>> (16 &&& 31)).toInt8.toInt32)))))) hx hb hK hP hD hS 2 rfl rfl (Nat.le_of_ble_eq_true rfl) rfl (by omega) rfl dX0_lay_19 (fun H locs hP hD hS => ?_)
  refine lv_aload_n hx hb dX0_lay_20 rfl (lv_at hl 1 rfl) ?_
  refine lv_dup hx hb dX0_lay_21 rfl ?_
  refine va_get (D := G.1) (ci := 0) (v := .int (nI (tp + 1))) (C := RX0) (T := TX0) (N := 23) hx hb hts in_X0 hown hK.1 hP 0 rfl rfl 2 (Nat.le_of_ble_eq_true rfl) (hts _ q426) (fun _ h => h) rfl dX0_lay_22 ?_
  refine lv_iconst (v := 1) hx hb dX0_lay_25 (by decide) ?_
  refine zr_iaddN (tp + 1) 1 hx hb dX0_lay_26 ?_
  refine zr_val (v' := .int (nI (tp + 2))) (by rfl) ?_
  refine va_put (D := G.1) (ci := 0) (v := .int (nI (tp + 2))) (ty := .int) (C := RX0) (T := TX0) (N := 23) hx hb hts in_X0 tyX0 tyX0_ok nmX0 hown hK.1 hP hD hS 0 rfl rfl 2 (Nat.le_of_ble_eq_true rfl) (hts _ q426) (fun _ h => h) rfl (tyX0_ok 2 (Nat.le_of_ble_eq_true rfl)) rfl rfl (Nat.le_of_ble_eq_true rfl) dX0_lay_27 (fun H locs hP hD hS => ?_)
  have hP : va_P G.1 zcl ((xA_ G xA xa_trays xa_tape (nI (tp + 2)) x_faultKind x_faultAt xa_bad xa_refused x_status x_above x_under nA xa_marks x_markMany xa_pictures x_lead x_round xa_ways x_bestSet x_bestMany x_left xa_aside xa_last x_hasLived uA n_year) ++ (xT_ G xa_tape (upd (upd xtape tp (vp_nar .byte ((v >>> (24 &&& 31)).toInt8.toInt32))) (tp + 1) (vp_nar .byte ((v >>> (16 &&& 31)).toInt8.toInt32))))) H := hP
  have hD : va_D A ((xA_ G xA xa_trays xa_tape (nI (tp + 2)) x_faultKind x_faultAt xa_bad xa_refused x_status x_above x_under nA xa_marks x_markMany xa_pictures x_lead x_round xa_ways x_bestSet x_bestMany x_left xa_aside xa_last x_hasLived uA n_year) ++ (xT_ G xa_tape (upd (upd xtape tp (vp_nar .byte ((v >>> (24 &&& 31)).toInt8.toInt32))) (tp + 1) (vp_nar .byte ((v >>> (16 &&& 31)).toInt8.toInt32))))) := hD
  refine lv_iinc (v := 8) (lv' := [(2, .int 8), (0, .ref xA), (1, .int v)]) hx hb dX0_lay_30 hl (k := 0) rfl (by decide) (by decide) rfl (fun ls hl => ?_)
  refine lv_goto (tgt := 3) hx hb dX0_lay_33 (by decide) ?_
  refine lv_iload_n hx hb dX0_lay_3 rfl (lv_at hl 0 rfl) ?_
  refine lv_if_lt (tgt := 36) hx hb dX0_lay_4 (by decide) (fun z => absurd z (by decide)) (fun _ => ?_)
  refine lv_aload_n hx hb dX0_lay_7 rfl (lv_at hl 1 rfl) ?_
  refine va_get (D := G.1) (ci := 0) (v := .ref xa_tape) (C := RX0) (T := TX0) (N := 23) hx hb hts in_X0 hown hK.1 hP 0 rfl rfl 1 (Nat.le_of_ble_eq_true rfl) (hts _ q425) (fun _ h => h) rfl dX0_lay_8 ?_
  refine lv_aload_n hx hb dX0_lay_11 rfl (lv_at hl 1 rfl) ?_
  refine va_get (D := G.1) (ci := 0) (v := .int (nI (tp + 2))) (C := RX0) (T := TX0) (N := 23) hx hb hts in_X0 hown hK.1 hP 0 rfl rfl 2 (Nat.le_of_ble_eq_true rfl) (hts _ q426) (fun _ h => h) rfl dX0_lay_12 ?_
  refine lv_iload_n hx hb dX0_lay_15 rfl (lv_at hl 2 rfl) ?_
  refine lv_iload_n hx hb dX0_lay_16 rfl (lv_at hl 0 rfl) ?_
  refine lv_ishr hx hb dX0_lay_17 ?_
  refine lv_i2b hx hb dX0_lay_18 rfl ?_
  refine zr_bast (tp + 2) (ws' := ((xA_ G xA xa_trays xa_tape (nI (tp + 2)) x_faultKind x_faultAt xa_bad xa_refused x_status x_above x_under nA xa_marks x_markMany xa_pictures x_lead x_round xa_ways x_bestSet x_bestMany x_left xa_aside xa_last x_hasLived uA n_year) ++ (xT_ G xa_tape (upd (upd (upd xtape tp (vp_nar .byte ((v >>> (24 &&& 31)).toInt8.toInt32))) (tp + 1) (vp_nar .byte ((v >>> (16 &&& 31)).toInt8.toInt32))) (tp + 2) (vp_nar .byte ((v >>> (8 &&& 31)).toInt8.toInt32)))))) hx hb hK hP hD hS 2 rfl rfl (Nat.le_of_ble_eq_true rfl) rfl (by omega) rfl dX0_lay_19 (fun H locs hP hD hS => ?_)
  refine lv_aload_n hx hb dX0_lay_20 rfl (lv_at hl 1 rfl) ?_
  refine lv_dup hx hb dX0_lay_21 rfl ?_
  refine va_get (D := G.1) (ci := 0) (v := .int (nI (tp + 2))) (C := RX0) (T := TX0) (N := 23) hx hb hts in_X0 hown hK.1 hP 0 rfl rfl 2 (Nat.le_of_ble_eq_true rfl) (hts _ q426) (fun _ h => h) rfl dX0_lay_22 ?_
  refine lv_iconst (v := 1) hx hb dX0_lay_25 (by decide) ?_
  refine zr_iaddN (tp + 2) 1 hx hb dX0_lay_26 ?_
  refine zr_val (v' := .int (nI (tp + 3))) (by rfl) ?_
  refine va_put (D := G.1) (ci := 0) (v := .int (nI (tp + 3))) (ty := .int) (C := RX0) (T := TX0) (N := 23) hx hb hts in_X0 tyX0 tyX0_ok nmX0 hown hK.1 hP hD hS 0 rfl rfl 2 (Nat.le_of_ble_eq_true rfl) (hts _ q426) (fun _ h => h) rfl (tyX0_ok 2 (Nat.le_of_ble_eq_true rfl)) rfl rfl (Nat.le_of_ble_eq_true rfl) dX0_lay_27 (fun H locs hP hD hS => ?_)
  have hP : va_P G.1 zcl ((xA_ G xA xa_trays xa_tape (nI (tp + 3)) x_faultKind x_faultAt xa_bad xa_refused x_status x_above x_under nA xa_marks x_markMany xa_pictures x_lead x_round xa_ways x_bestSet x_bestMany x_left xa_aside xa_last x_hasLived uA n_year) ++ (xT_ G xa_tape (upd (upd (upd xtape tp (vp_nar .byte ((v >>> (24 &&& 31)).toInt8.toInt32))) (tp + 1) (vp_nar .byte ((v >>> (16 &&& 31)).toInt8.toInt32))) (tp + 2) (vp_nar .byte ((v >>> (8 &&& 31)).toInt8.toInt32))))) H := hP
  have hD : va_D A ((xA_ G xA xa_trays xa_tape (nI (tp + 3)) x_faultKind x_faultAt xa_bad xa_refused x_status x_above x_under nA xa_marks x_markMany xa_pictures x_lead x_round xa_ways x_bestSet x_bestMany x_left xa_aside xa_last x_hasLived uA n_year) ++ (xT_ G xa_tape (upd (upd (upd xtape tp (vp_nar .byte ((v >>> (24 &&& 31)).toInt8.toInt32))) (tp + 1) (vp_nar .byte ((v >>> (16 &&& 31)).toInt8.toInt32))) (tp + 2) (vp_nar .byte ((v >>> (8 &&& 31)).toInt8.toInt32))))) := hD
  refine lv_iinc (v := 0) (lv' := [(2, .int 0), (0, .ref xA), (1, .int v)]) hx hb dX0_lay_30 hl (k := 0) rfl (by decide) (by decide) rfl (fun ls hl => ?_)
  refine lv_goto (tgt := 3) hx hb dX0_lay_33 (by decide) ?_
  refine lv_iload_n hx hb dX0_lay_3 rfl (lv_at hl 0 rfl) ?_
  refine lv_if_lt (tgt := 36) hx hb dX0_lay_4 (by decide) (fun z => absurd z (by decide)) (fun _ => ?_)
  refine lv_aload_n hx hb dX0_lay_7 rfl (lv_at hl 1 rfl) ?_
  refine va_get (D := G.1) (ci := 0) (v := .ref xa_tape) (C := RX0) (T := TX0) (N := 23) hx hb hts in_X0 hown hK.1 hP 0 rfl rfl 1 (Nat.le_of_ble_eq_true rfl) (hts _ q425) (fun _ h => h) rfl dX0_lay_8 ?_
  refine lv_aload_n hx hb dX0_lay_11 rfl (lv_at hl 1 rfl) ?_
  refine va_get (D := G.1) (ci := 0) (v := .int (nI (tp + 3))) (C := RX0) (T := TX0) (N := 23) hx hb hts in_X0 hown hK.1 hP 0 rfl rfl 2 (Nat.le_of_ble_eq_true rfl) (hts _ q426) (fun _ h => h) rfl dX0_lay_12 ?_
  refine lv_iload_n hx hb dX0_lay_15 rfl (lv_at hl 2 rfl) ?_
  refine lv_iload_n hx hb dX0_lay_16 rfl (lv_at hl 0 rfl) ?_
  refine lv_ishr hx hb dX0_lay_17 ?_
  refine lv_i2b hx hb dX0_lay_18 rfl ?_
  refine zr_bast (tp + 3) (ws' := ((xA_ G xA xa_trays xa_tape (nI (tp + 3)) x_faultKind x_faultAt xa_bad xa_refused x_status x_above x_under nA xa_marks x_markMany xa_pictures x_lead x_round xa_ways x_bestSet x_bestMany x_left xa_aside xa_last x_hasLived uA n_year) ++ (xT_ G xa_tape (upd (upd (upd (upd xtape tp (vp_nar .byte ((v >>> (24 &&& 31)).toInt8.toInt32))) (tp + 1) (vp_nar .byte ((v >>> (16 &&& 31)).toInt8.toInt32))) (tp + 2) (vp_nar .byte ((v >>> (8 &&& 31)).toInt8.toInt32))) (tp + 3) (vp_nar .byte ((v >>> (0 &&& 31)).toInt8.toInt32)))))) hx hb hK hP hD hS 2 rfl rfl (Nat.le_of_ble_eq_true rfl) rfl (by omega) rfl dX0_lay_19 (fun H locs hP hD hS => ?_)
  refine lv_aload_n hx hb dX0_lay_20 rfl (lv_at hl 1 rfl) ?_
  refine lv_dup hx hb dX0_lay_21 rfl ?_
  refine va_get (D := G.1) (ci := 0) (v := .int (nI (tp + 3))) (C := RX0) (T := TX0) (N := 23) hx hb hts in_X0 hown hK.1 hP 0 rfl rfl 2 (Nat.le_of_ble_eq_true rfl) (hts _ q426) (fun _ h => h) rfl dX0_lay_22 ?_
  refine lv_iconst (v := 1) hx hb dX0_lay_25 (by decide) ?_
  refine zr_iaddN (tp + 3) 1 hx hb dX0_lay_26 ?_
  refine zr_val (v' := .int (nI (tp + 4))) (by rfl) ?_
  refine va_put (D := G.1) (ci := 0) (v := .int (nI (tp + 4))) (ty := .int) (C := RX0) (T := TX0) (N := 23) hx hb hts in_X0 tyX0 tyX0_ok nmX0 hown hK.1 hP hD hS 0 rfl rfl 2 (Nat.le_of_ble_eq_true rfl) (hts _ q426) (fun _ h => h) rfl (tyX0_ok 2 (Nat.le_of_ble_eq_true rfl)) rfl rfl (Nat.le_of_ble_eq_true rfl) dX0_lay_27 (fun H locs hP hD hS => ?_)
  have hP : va_P G.1 zcl ((xA_ G xA xa_trays xa_tape (nI (tp + 4)) x_faultKind x_faultAt xa_bad xa_refused x_status x_above x_under nA xa_marks x_markMany xa_pictures x_lead x_round xa_ways x_bestSet x_bestMany x_left xa_aside xa_last x_hasLived uA n_year) ++ (xT_ G xa_tape (upd (upd (upd (upd xtape tp (vp_nar .byte ((v >>> (24 &&& 31)).toInt8.toInt32))) (tp + 1) (vp_nar .byte ((v >>> (16 &&& 31)).toInt8.toInt32))) (tp + 2) (vp_nar .byte ((v >>> (8 &&& 31)).toInt8.toInt32))) (tp + 3) (vp_nar .byte ((v >>> (0 &&& 31)).toInt8.toInt32))))) H := hP
  have hD : va_D A ((xA_ G xA xa_trays xa_tape (nI (tp + 4)) x_faultKind x_faultAt xa_bad xa_refused x_status x_above x_under nA xa_marks x_markMany xa_pictures x_lead x_round xa_ways x_bestSet x_bestMany x_left xa_aside xa_last x_hasLived uA n_year) ++ (xT_ G xa_tape (upd (upd (upd (upd xtape tp (vp_nar .byte ((v >>> (24 &&& 31)).toInt8.toInt32))) (tp + 1) (vp_nar .byte ((v >>> (16 &&& 31)).toInt8.toInt32))) (tp + 2) (vp_nar .byte ((v >>> (8 &&& 31)).toInt8.toInt32))) (tp + 3) (vp_nar .byte ((v >>> (0 &&& 31)).toInt8.toInt32))))) := hD
  refine lv_iinc (v := (-8)) (lv' := [(2, .int (-8)), (0, .ref xA), (1, .int v)]) hx hb dX0_lay_30 hl (k := 0) rfl (by decide) (by decide) rfl (fun ls hl => ?_)
  refine lv_goto (tgt := 3) hx hb dX0_lay_33 (by decide) ?_
  refine lv_iload_n hx hb dX0_lay_3 rfl (lv_at hl 0 rfl) ?_
  refine lv_if_lt (tgt := 36) hx hb dX0_lay_4 (by decide) (fun _ => ?_) (fun z => absurd (by decide) z)
  have e_ : xf_lay tp xtape v = (tp + 4, upd (upd (upd (upd xtape tp (vp_nar .byte ((v >>> (24 &&& 31)).toInt8.toInt32))) (tp + 1) (vp_nar .byte ((v >>> (16 &&& 31)).toInt8.toInt32))) (tp + 2) (vp_nar .byte ((v >>> (8 &&& 31)).toInt8.toInt32))) (tp + 3) (vp_nar .byte ((v >>> (0 &&& 31)).toInt8.toInt32))) := by rw [xf_lay]
  exact zr_mv hx hb hr hlocks hP hD hS dX0_lay_36 rfl (by rw [e_]) trivial
def xf_feed (tp : Nat) (xtape : Nat → Int32) (fa : Int32) (fb : Int32) (fc : Int32) (fd : Int32) (fe : Int32) : Int32 × Nat × (Nat → Int32) :=
  (if (tp + 20) ≤ 900 then
    zlet (xf_lay tp xtape fa) (fun t_2 =>
    zlet (xf_lay t_2.1 t_2.2 fb) (fun t_3 =>
    zlet (xf_lay t_3.1 t_3.2 fc) (fun t_4 =>
    zlet (xf_lay t_4.1 t_4.2 fd) (fun t_5 =>
    zlet (xf_lay t_5.1 t_5.2 fe) (fun t_6 =>
    (nI t_6.1, t_6.1, t_6.2))))))
  else
    ((-1), tp, xtape))
theorem hd_X0_feed : yX0_feed.cls = RX0 ∧ yX0_feed.cls ≠ "java/lang/invoke/MethodHandle" ∧ yX0_feed.cls ≠ "java/lang/invoke/VarHandle" ∧ (parseMethodDescriptor yX0_feed.desc).map (fun d => d.parameters.length) = some 5 := by decide +kernel
set_option maxHeartbeats 4000000 in
set_option maxRecDepth 100000 in
theorem mt_xf_feed (l : Launch) (G : zG) (xA : Nat) (xa_trays : Nat) (xa_tape : Nat) (tp : Nat) (x_faultKind : Int32) (x_faultAt : Int32) (xa_bad : Nat) (xa_refused : Nat) (x_status : Int32) (x_above : Int64) (x_under : Int64) (nA : Nat) (xa_marks : Nat) (x_markMany : Int32) (xa_pictures : Nat) (x_lead : Int32) (x_round : Int32) (xa_ways : Nat) (x_bestSet : Int32) (x_bestMany : Int32) (x_left : Int32) (xa_aside : Nat) (xa_last : Nat) (x_hasLived : Bool) (uA : Nat) (n_year : Option Nat) (xtape : Nat → Int32) (fa : Int32) (fb : Int32) (fc : Int32) (fd : Int32) (fe : Int32) (htp : tp ≤ 900) (sz : Nat) : Met l yX0_feed (ws_ yX0_feed cX0_feed 6 (some .int)) (zR 2 0 0) (zPm G sz [.ref xA, .int fa, .int fb, .int fc, .int fd, .int fe] ((xA_ G xA xa_trays xa_tape (nI tp) x_faultKind x_faultAt xa_bad xa_refused x_status x_above x_under nA xa_marks x_markMany xa_pictures x_lead x_round xa_ways x_bestSet x_bestMany x_left xa_aside xa_last x_hasLived uA n_year) ++ (xT_ G xa_tape xtape))) (zQm G (True) (some (.int ((xf_feed tp xtape fa fb fc fd fe).1))) ((xA_ G xA xa_trays xa_tape (nI ((xf_feed tp xtape fa fb fc fd fe).2.1)) x_faultKind x_faultAt xa_bad xa_refused x_status x_above x_under nA xa_marks x_markMany xa_pictures x_lead x_round xa_ways x_bestSet x_bestMany x_left xa_aside xa_last x_hasLived uA n_year) ++ (xT_ G xa_tape ((xf_feed tp xtape fa fb fc fd fe).2.2))) (va_A ((xA_ G xA xa_trays xa_tape (nI tp) x_faultKind x_faultAt xa_bad xa_refused x_status x_above x_under nA xa_marks x_markMany xa_pictures x_lead x_round xa_ways x_bestSet x_bestMany x_left xa_aside xa_last x_hasLived uA n_year) ++ (xT_ G xa_tape xtape)) sz)) 0 0 (va_A ((xA_ G xA xa_trays xa_tape (nI tp) x_faultKind x_faultAt xa_bad xa_refused x_status x_above x_under nA xa_marks x_markMany xa_pictures x_lead x_round xa_ways x_bestSet x_bestMany x_left xa_aside xa_last x_hasLived uA n_year) ++ (xT_ G xa_tape xtape)) sz) := by
  refine zr_entM (by decide) (Nat.le_of_ble_eq_true rfl) ?_
  intro p e s m below meth c ⟨hx, hb, hr, hml, hown, hts, hlocks, hnm⟩ ls hl hP hK A hE hA hD hS
  have hown : s.vm.findClass RX0 = some m.cls := hown
  have hl : lv_has ls 6 [(0, .ref xA), (1, .int fa), (2, .int fb), (3, .int fc), (4, .int fd), (5, .int fe)] := hl
  obtain ⟨H, hH⟩ : ∃ H, H = s.heap := ⟨_, rfl⟩
  obtain ⟨locs, hlo⟩ : ∃ L : List Loc, L = [] := ⟨_, rfl⟩
  rw [← hH] at hP
  have hS : va_S A s.heap H locs := by rw [hH, hlo]; exact va_S.rf
  have hgo : W p l e (zR 2 0 0) s m ([.ref xA, .int fa, .int fb, .int fc, .int fd, .int fe] : List Value).toArray below meth c H locs 0 0 (MQ below (zQm G (True) (some (.int ((xf_feed tp xtape fa fb fc fd fe).1))) ((xA_ G xA xa_trays xa_tape (nI ((xf_feed tp xtape fa fb fc fd fe).2.1)) x_faultKind x_faultAt xa_bad xa_refused x_status x_above x_under nA xa_marks x_markMany xa_pictures x_lead x_round xa_ways x_bestSet x_bestMany x_left xa_aside xa_last x_hasLived uA n_year) ++ (xT_ G xa_tape ((xf_feed tp xtape fa fb fc fd fe).2.2))) A) ([.ref xA, .int fa, .int fb, .int fc, .int fd, .int fe] : List Value).toArray s 0 0 A) (F0 m 0 ls []) := ?_
  · rw [hH, hlo] at hgo; exact hgo
  clear hH hlo
  refine lv_aload_n hx hb dX0_feed_0 rfl (lv_at hl 0 rfl) ?_
  refine va_get (D := G.1) (ci := 0) (v := .int (nI tp)) (C := RX0) (T := TX0) (N := 23) hx hb hts in_X0 hown hK.1 hP 0 rfl rfl 2 (Nat.le_of_ble_eq_true rfl) (hts _ q426) (fun _ h => h) rfl dX0_feed_1 ?_
  refine lv_bipush (v := 20) hx hb dX0_feed_4 (by decide) ?_
  refine zr_iaddN tp 20 hx hb dX0_feed_6 ?_
  refine lv_sipush (v := 900) hx hb dX0_feed_7 (by decide) ?_
  refine zr_le (tp + 20) 900 (by omega) (by decide) (tgt := 15) hx hb dX0_feed_10 (by decide) (fun c_1 => ?_) (fun c_1 => ?_)
  · refine lv_aload_n hx hb dX0_feed_15 rfl (lv_at hl 0 rfl) ?_
    refine lv_iload_n hx hb dX0_feed_16 rfl (lv_at hl 1 rfl) ?_
    refine zr_muV (F := xf_lay tp xtape fa) (ff := fun t_2 => True) (rr := fun t_2 => none) (w1 := fun t_2 => ((xA_ G xA xa_trays xa_tape (nI t_2.1) x_faultKind x_faultAt xa_bad xa_refused x_status x_above x_under nA xa_marks x_markMany xa_pictures x_lead x_round xa_ways x_bestSet x_bestMany x_left xa_aside xa_last x_hasLived uA n_year) ++ (xT_ G xa_tape t_2.2))) ⟨hx, hb, hml, hown, hts⟩ (mt_xf_lay l G xA xa_trays xa_tape tp x_faultKind x_faultAt xa_bad xa_refused x_status x_above x_under nA xa_marks x_markMany xa_pictures x_lead x_round xa_ways x_bestSet x_bestMany x_left xa_aside xa_last x_hasLived uA n_year xtape fa (by omega) H.size) (cwV 1 hts (lw_V q617 q619 qs5 q135 q620) rfl rfl rfl hd_X0_lay ⟨(Nat.le_of_ble_eq_true rfl), (Nat.le_of_ble_eq_true rfl)⟩) hP hD hS hA hK hE 0 0 rfl rfl rfl hl.1 rfl (Nat.le_of_ble_eq_true rfl) dX0_feed_17 ⟨Nat.le_refl _, Nat.le_refl _⟩ (fun t_2 ht_2 hft_2 H locs hP hD hS _ => ?_)
    refine W.eq (g2 := F0 m 20 ls []) rfl ?_
    have hz1 : t_2.1 = tp + 4 := by rw [← ht_2]; rfl
    refine lv_aload_n hx hb dX0_feed_20 rfl (lv_at hl 0 rfl) ?_
    refine lv_iload_n hx hb dX0_feed_21 rfl (lv_at hl 2 rfl) ?_
    refine zr_muV (F := xf_lay t_2.1 t_2.2 fb) (ff := fun t_3 => True) (rr := fun t_3 => none) (w1 := fun t_3 => ((xA_ G xA xa_trays xa_tape (nI t_3.1) x_faultKind x_faultAt xa_bad xa_refused x_status x_above x_under nA xa_marks x_markMany xa_pictures x_lead x_round xa_ways x_bestSet x_bestMany x_left xa_aside xa_last x_hasLived uA n_year) ++ (xT_ G xa_tape t_3.2))) ⟨hx, hb, hml, hown, hts⟩ (mt_xf_lay l G xA xa_trays xa_tape t_2.1 x_faultKind x_faultAt xa_bad xa_refused x_status x_above x_under nA xa_marks x_markMany xa_pictures x_lead x_round xa_ways x_bestSet x_bestMany x_left xa_aside xa_last x_hasLived uA n_year t_2.2 fb (by omega) H.size) (cwV 1 hts (lw_V q617 q619 qs5 q135 q620) rfl rfl rfl hd_X0_lay ⟨(Nat.le_of_ble_eq_true rfl), (Nat.le_of_ble_eq_true rfl)⟩) hP hD hS hA hK hE 0 0 rfl rfl rfl hl.1 rfl (Nat.le_of_ble_eq_true rfl) dX0_feed_22 ⟨Nat.le_refl _, Nat.le_refl _⟩ (fun t_3 ht_3 hft_3 H locs hP hD hS _ => ?_)
    refine W.eq (g2 := F0 m 25 ls []) rfl ?_
    have hz2 : t_3.1 = t_2.1 + 4 := by rw [← ht_3]; rfl
    refine lv_aload_n hx hb dX0_feed_25 rfl (lv_at hl 0 rfl) ?_
    refine lv_iload_n hx hb dX0_feed_26 rfl (lv_at hl 3 rfl) ?_
    refine zr_muV (F := xf_lay t_3.1 t_3.2 fc) (ff := fun t_4 => True) (rr := fun t_4 => none) (w1 := fun t_4 => ((xA_ G xA xa_trays xa_tape (nI t_4.1) x_faultKind x_faultAt xa_bad xa_refused x_status x_above x_under nA xa_marks x_markMany xa_pictures x_lead x_round xa_ways x_bestSet x_bestMany x_left xa_aside xa_last x_hasLived uA n_year) ++ (xT_ G xa_tape t_4.2))) ⟨hx, hb, hml, hown, hts⟩ (mt_xf_lay l G xA xa_trays xa_tape t_3.1 x_faultKind x_faultAt xa_bad xa_refused x_status x_above x_under nA xa_marks x_markMany xa_pictures x_lead x_round xa_ways x_bestSet x_bestMany x_left xa_aside xa_last x_hasLived uA n_year t_3.2 fc (by omega) H.size) (cwV 1 hts (lw_V q617 q619 qs5 q135 q620) rfl rfl rfl hd_X0_lay ⟨(Nat.le_of_ble_eq_true rfl), (Nat.le_of_ble_eq_true rfl)⟩) hP hD hS hA hK hE 0 0 rfl rfl rfl hl.1 rfl (Nat.le_of_ble_eq_true rfl) dX0_feed_27 ⟨Nat.le_refl _, Nat.le_refl _⟩ (fun t_4 ht_4 hft_4 H locs hP hD hS _ => ?_)
    refine W.eq (g2 := F0 m 30 ls []) rfl ?_
    have hz3 : t_4.1 = t_3.1 + 4 := by rw [← ht_4]; rfl
    refine lv_aload_n hx hb dX0_feed_30 rfl (lv_at hl 0 rfl) ?_
    refine lv_iload hx hb dX0_feed_31 (lv_at hl 4 rfl) ?_
    refine zr_muV (F := xf_lay t_4.1 t_4.2 fd) (ff := fun t_5 => True) (rr := fun t_5 => none) (w1 := fun t_5 => ((xA_ G xA xa_trays xa_tape (nI t_5.1) x_faultKind x_faultAt xa_bad xa_refused x_status x_above x_under nA xa_marks x_markMany xa_pictures x_lead x_round xa_ways x_bestSet x_bestMany x_left xa_aside xa_last x_hasLived uA n_year) ++ (xT_ G xa_tape t_5.2))) ⟨hx, hb, hml, hown, hts⟩ (mt_xf_lay l G xA xa_trays xa_tape t_4.1 x_faultKind x_faultAt xa_bad xa_refused x_status x_above x_under nA xa_marks x_markMany xa_pictures x_lead x_round xa_ways x_bestSet x_bestMany x_left xa_aside xa_last x_hasLived uA n_year t_4.2 fd (by omega) H.size) (cwV 1 hts (lw_V q617 q619 qs5 q135 q620) rfl rfl rfl hd_X0_lay ⟨(Nat.le_of_ble_eq_true rfl), (Nat.le_of_ble_eq_true rfl)⟩) hP hD hS hA hK hE 0 0 rfl rfl rfl hl.1 rfl (Nat.le_of_ble_eq_true rfl) dX0_feed_33 ⟨Nat.le_refl _, Nat.le_refl _⟩ (fun t_5 ht_5 hft_5 H locs hP hD hS _ => ?_)
    refine W.eq (g2 := F0 m 36 ls []) rfl ?_
    have hz4 : t_5.1 = t_4.1 + 4 := by rw [← ht_5]; rfl
    refine lv_aload_n hx hb dX0_feed_36 rfl (lv_at hl 0 rfl) ?_
    refine lv_iload hx hb dX0_feed_37 (lv_at hl 5 rfl) ?_
    refine zr_muV (F := xf_lay t_5.1 t_5.2 fe) (ff := fun t_6 => True) (rr := fun t_6 => none) (w1 := fun t_6 => ((xA_ G xA xa_trays xa_tape (nI t_6.1) x_faultKind x_faultAt xa_bad xa_refused x_status x_above x_under nA xa_marks x_markMany xa_pictures x_lead x_round xa_ways x_bestSet x_bestMany x_left xa_aside xa_last x_hasLived uA n_year) ++ (xT_ G xa_tape t_6.2))) ⟨hx, hb, hml, hown, hts⟩ (mt_xf_lay l G xA xa_trays xa_tape t_5.1 x_faultKind x_faultAt xa_bad xa_refused x_status x_above x_under nA xa_marks x_markMany xa_pictures x_lead x_round xa_ways x_bestSet x_bestMany x_left xa_aside xa_last x_hasLived uA n_year t_5.2 fe (by omega) H.size) (cwV 1 hts (lw_V q617 q619 qs5 q135 q620) rfl rfl rfl hd_X0_lay ⟨(Nat.le_of_ble_eq_true rfl), (Nat.le_of_ble_eq_true rfl)⟩) hP hD hS hA hK hE 0 0 rfl rfl rfl hl.1 rfl (Nat.le_of_ble_eq_true rfl) dX0_feed_39 ⟨Nat.le_refl _, Nat.le_refl _⟩ (fun t_6 ht_6 hft_6 H locs hP hD hS _ => ?_)
    refine W.eq (g2 := F0 m 42 ls []) rfl ?_
    refine lv_aload_n hx hb dX0_feed_42 rfl (lv_at hl 0 rfl) ?_
    refine va_get (D := G.1) (ci := 0) (v := .int (nI t_6.1)) (C := RX0) (T := TX0) (N := 23) hx hb hts in_X0 hown hK.1 hP 0 rfl rfl 2 (Nat.le_of_ble_eq_true rfl) (hts _ q426) (fun _ h => h) rfl dX0_feed_43 ?_
    have e_ : xf_feed tp xtape fa fb fc fd fe = (nI t_6.1, t_6.1, t_6.2) := by rw [xf_feed, if_pos c_1, zlet_eq ht_2, zlet_eq ht_3, zlet_eq ht_4, zlet_eq ht_5, zlet_eq ht_6]
    exact zr_mi hx hb hr hlocks hP hD hS dX0_feed_46 (by rw [e_])  (by rw [e_]) trivial
  · refine lv_iconst (v := (-1)) hx hb dX0_feed_13 (by decide) ?_
    have e_ : xf_feed tp xtape fa fb fc fd fe = ((-1), tp, xtape) := by rw [xf_feed, if_neg c_1]
    exact zr_mi hx hb hr hlocks hP hD hS dX0_feed_14 (by rw [e_])  (by rw [e_]) trivial
def xf_opens (tp : Nat) (x_faultKind : Int32) (x_faultAt : Int32) (nn : Int32) (most : Int32) : Bool × Nat × Int32 × Int32 × Int32 :=
  (if nn < 0 then
    (false, tp, x_faultKind, x_faultAt, 1)
  else
    (if (nI tp) < nn then
      (false, tp, x_faultKind, x_faultAt, 1)
    else
      (if nn ≤ most then
        (true, 0, 0, (-1), 0)
      else
        (false, tp, x_faultKind, x_faultAt, 1))))
theorem hd_X0_opens : yX0_opens.cls = RX0 ∧ yX0_opens.cls ≠ "java/lang/invoke/MethodHandle" ∧ yX0_opens.cls ≠ "java/lang/invoke/VarHandle" ∧ (parseMethodDescriptor yX0_opens.desc).map (fun d => d.parameters.length) = some 2 := by decide +kernel
set_option maxHeartbeats 4000000 in
set_option maxRecDepth 100000 in
theorem mt_xf_opens (l : Launch) (G : zG) (xA : Nat) (xa_trays : Nat) (xa_tape : Nat) (tp : Nat) (x_faultKind : Int32) (x_faultAt : Int32) (xa_bad : Nat) (xa_refused : Nat) (x_status : Int32) (x_above : Int64) (x_under : Int64) (nA : Nat) (xa_marks : Nat) (x_markMany : Int32) (xa_pictures : Nat) (x_lead : Int32) (x_round : Int32) (xa_ways : Nat) (x_bestSet : Int32) (x_bestMany : Int32) (x_left : Int32) (xa_aside : Nat) (xa_last : Nat) (x_hasLived : Bool) (uA : Nat) (n_year : Option Nat) (xtape : Nat → Int32) (nn : Int32) (most : Int32) (htp : tp ≤ 900) (sz : Nat) : Met l yX0_opens (ws_ yX0_opens cX0_opens 3 (some .boolean)) (zR 1 0 0) (zPm G sz [.ref xA, .int nn, .int most] ((xA_ G xA xa_trays xa_tape (nI tp) x_faultKind x_faultAt xa_bad xa_refused x_status x_above x_under nA xa_marks x_markMany xa_pictures x_lead x_round xa_ways x_bestSet x_bestMany x_left xa_aside xa_last x_hasLived uA n_year) ++ (xT_ G xa_tape xtape))) (zQm G (True) (some (.int (zb ((xf_opens tp x_faultKind x_faultAt nn most).1)))) ((xA_ G xA xa_trays xa_tape (nI ((xf_opens tp x_faultKind x_faultAt nn most).2.1)) ((xf_opens tp x_faultKind x_faultAt nn most).2.2.1) ((xf_opens tp x_faultKind x_faultAt nn most).2.2.2.1) xa_bad xa_refused ((xf_opens tp x_faultKind x_faultAt nn most).2.2.2.2) x_above x_under nA xa_marks x_markMany xa_pictures x_lead x_round xa_ways x_bestSet x_bestMany x_left xa_aside xa_last x_hasLived uA n_year) ++ (xT_ G xa_tape xtape)) (va_A ((xA_ G xA xa_trays xa_tape (nI tp) x_faultKind x_faultAt xa_bad xa_refused x_status x_above x_under nA xa_marks x_markMany xa_pictures x_lead x_round xa_ways x_bestSet x_bestMany x_left xa_aside xa_last x_hasLived uA n_year) ++ (xT_ G xa_tape xtape)) sz)) 0 0 (va_A ((xA_ G xA xa_trays xa_tape (nI tp) x_faultKind x_faultAt xa_bad xa_refused x_status x_above x_under nA xa_marks x_markMany xa_pictures x_lead x_round xa_ways x_bestSet x_bestMany x_left xa_aside xa_last x_hasLived uA n_year) ++ (xT_ G xa_tape xtape)) sz) := by
  refine zr_entM (by decide) (Nat.le_of_ble_eq_true rfl) ?_
  intro p e s m below meth c ⟨hx, hb, hr, hml, hown, hts, hlocks, hnm⟩ ls hl hP hK A hE hA hD hS
  have hown : s.vm.findClass RX0 = some m.cls := hown
  have hl : lv_has ls 3 [(0, .ref xA), (1, .int nn), (2, .int most)] := hl
  obtain ⟨H, hH⟩ : ∃ H, H = s.heap := ⟨_, rfl⟩
  obtain ⟨locs, hlo⟩ : ∃ L : List Loc, L = [] := ⟨_, rfl⟩
  rw [← hH] at hP
  have hS : va_S A s.heap H locs := by rw [hH, hlo]; exact va_S.rf
  have hgo : W p l e (zR 1 0 0) s m ([.ref xA, .int nn, .int most] : List Value).toArray below meth c H locs 0 0 (MQ below (zQm G (True) (some (.int (zb ((xf_opens tp x_faultKind x_faultAt nn most).1)))) ((xA_ G xA xa_trays xa_tape (nI ((xf_opens tp x_faultKind x_faultAt nn most).2.1)) ((xf_opens tp x_faultKind x_faultAt nn most).2.2.1) ((xf_opens tp x_faultKind x_faultAt nn most).2.2.2.1) xa_bad xa_refused ((xf_opens tp x_faultKind x_faultAt nn most).2.2.2.2) x_above x_under nA xa_marks x_markMany xa_pictures x_lead x_round xa_ways x_bestSet x_bestMany x_left xa_aside xa_last x_hasLived uA n_year) ++ (xT_ G xa_tape xtape)) A) ([.ref xA, .int nn, .int most] : List Value).toArray s 0 0 A) (F0 m 0 ls []) := ?_
  · rw [hH, hlo] at hgo; exact hgo
  clear hH hlo
  refine lv_aload_n hx hb dX0_opens_0 rfl (lv_at hl 0 rfl) ?_
  refine lv_iload_n hx hb dX0_opens_1 rfl (lv_at hl 1 rfl) ?_
  refine lv_if_lt (tgt := 18) hx hb dX0_opens_2 (by decide) (fun c_1 => ?_) (fun c_1 => ?_)
  · refine lv_iconst (v := 1) hx hb dX0_opens_18 (by decide) ?_
    refine lv_goto (tgt := 23) hx hb dX0_opens_19 (by decide) ?_
    refine va_put (D := G.1) (ci := 0) (v := .int 1) (ty := .int) (C := RX0) (T := TX0) (N := 23) hx hb hts in_X0 tyX0 tyX0_ok nmX0 hown hK.1 hP hD hS 0 rfl rfl 7 (Nat.le_of_ble_eq_true rfl) (hts _ q432) (fun _ h => h) rfl (tyX0_ok 7 (Nat.le_of_ble_eq_true rfl)) rfl rfl (Nat.le_of_ble_eq_true rfl) dX0_opens_23 (fun H locs hP hD hS => ?_)
    have hP : va_P G.1 zcl ((xA_ G xA xa_trays xa_tape (nI tp) x_faultKind x_faultAt xa_bad xa_refused 1 x_above x_under nA xa_marks x_markMany xa_pictures x_lead x_round xa_ways x_bestSet x_bestMany x_left xa_aside xa_last x_hasLived uA n_year) ++ (xT_ G xa_tape xtape)) H := hP
    have hD : va_D A ((xA_ G xA xa_trays xa_tape (nI tp) x_faultKind x_faultAt xa_bad xa_refused 1 x_above x_under nA xa_marks x_markMany xa_pictures x_lead x_round xa_ways x_bestSet x_bestMany x_left xa_aside xa_last x_hasLived uA n_year) ++ (xT_ G xa_tape xtape)) := hD
    refine lv_aload_n hx hb dX0_opens_26 rfl (lv_at hl 0 rfl) ?_
    refine va_get (D := G.1) (ci := 0) (v := .int 1) (C := RX0) (T := TX0) (N := 23) hx hb hts in_X0 hown hK.1 hP 0 rfl rfl 7 (Nat.le_of_ble_eq_true rfl) (hts _ q432) (fun _ h => h) rfl dX0_opens_27 ?_
    refine lv_if_le (tgt := 35) hx hb dX0_opens_30 (by decide) (fun z => absurd z (by decide)) (fun _ => ?_)
    refine lv_iconst (v := 0) hx hb dX0_opens_33 (by decide) ?_
    have e_ : xf_opens tp x_faultKind x_faultAt nn most = (false, tp, x_faultKind, x_faultAt, 1) := by rw [xf_opens, if_pos c_1]
    exact zr_mz hx hb hr hlocks hP hD hS dX0_opens_34 rfl (by rw [e_]; rfl) (by rw [e_] <;> rfl) trivial
  · refine lv_iload_n hx hb dX0_opens_5 rfl (lv_at hl 1 rfl) ?_
    refine lv_aload_n hx hb dX0_opens_6 rfl (lv_at hl 0 rfl) ?_
    refine va_get (D := G.1) (ci := 0) (v := .int (nI tp)) (C := RX0) (T := TX0) (N := 23) hx hb hts in_X0 hown hK.1 hP 0 rfl rfl 2 (Nat.le_of_ble_eq_true rfl) (hts _ q426) (fun _ h => h) rfl dX0_opens_7 ?_
    refine lv_icmp_gt (tgt := 18) hx hb dX0_opens_10 (by decide) (fun c_2 => ?_) (fun c_2 => ?_)
    · refine lv_iconst (v := 1) hx hb dX0_opens_18 (by decide) ?_
      refine lv_goto (tgt := 23) hx hb dX0_opens_19 (by decide) ?_
      refine va_put (D := G.1) (ci := 0) (v := .int 1) (ty := .int) (C := RX0) (T := TX0) (N := 23) hx hb hts in_X0 tyX0 tyX0_ok nmX0 hown hK.1 hP hD hS 0 rfl rfl 7 (Nat.le_of_ble_eq_true rfl) (hts _ q432) (fun _ h => h) rfl (tyX0_ok 7 (Nat.le_of_ble_eq_true rfl)) rfl rfl (Nat.le_of_ble_eq_true rfl) dX0_opens_23 (fun H locs hP hD hS => ?_)
      have hP : va_P G.1 zcl ((xA_ G xA xa_trays xa_tape (nI tp) x_faultKind x_faultAt xa_bad xa_refused 1 x_above x_under nA xa_marks x_markMany xa_pictures x_lead x_round xa_ways x_bestSet x_bestMany x_left xa_aside xa_last x_hasLived uA n_year) ++ (xT_ G xa_tape xtape)) H := hP
      have hD : va_D A ((xA_ G xA xa_trays xa_tape (nI tp) x_faultKind x_faultAt xa_bad xa_refused 1 x_above x_under nA xa_marks x_markMany xa_pictures x_lead x_round xa_ways x_bestSet x_bestMany x_left xa_aside xa_last x_hasLived uA n_year) ++ (xT_ G xa_tape xtape)) := hD
      refine lv_aload_n hx hb dX0_opens_26 rfl (lv_at hl 0 rfl) ?_
      refine va_get (D := G.1) (ci := 0) (v := .int 1) (C := RX0) (T := TX0) (N := 23) hx hb hts in_X0 hown hK.1 hP 0 rfl rfl 7 (Nat.le_of_ble_eq_true rfl) (hts _ q432) (fun _ h => h) rfl dX0_opens_27 ?_
      refine lv_if_le (tgt := 35) hx hb dX0_opens_30 (by decide) (fun z => absurd z (by decide)) (fun _ => ?_)
      refine lv_iconst (v := 0) hx hb dX0_opens_33 (by decide) ?_
      have e_ : xf_opens tp x_faultKind x_faultAt nn most = (false, tp, x_faultKind, x_faultAt, 1) := by rw [xf_opens, if_neg c_1, if_pos c_2]
      exact zr_mz hx hb hr hlocks hP hD hS dX0_opens_34 rfl (by rw [e_]; rfl) (by rw [e_] <;> rfl) trivial
    · refine lv_iload_n hx hb dX0_opens_13 rfl (lv_at hl 1 rfl) ?_
      refine lv_iload_n hx hb dX0_opens_14 rfl (lv_at hl 2 rfl) ?_
      refine lv_icmp_le (tgt := 22) hx hb dX0_opens_15 (by decide) (fun c_3 => ?_) (fun c_3 => ?_)
      · refine lv_iconst (v := 0) hx hb dX0_opens_22 (by decide) ?_
        refine va_put (D := G.1) (ci := 0) (v := .int 0) (ty := .int) (C := RX0) (T := TX0) (N := 23) hx hb hts in_X0 tyX0 tyX0_ok nmX0 hown hK.1 hP hD hS 0 rfl rfl 7 (Nat.le_of_ble_eq_true rfl) (hts _ q432) (fun _ h => h) rfl (tyX0_ok 7 (Nat.le_of_ble_eq_true rfl)) rfl rfl (Nat.le_of_ble_eq_true rfl) dX0_opens_23 (fun H locs hP hD hS => ?_)
        have hP : va_P G.1 zcl ((xA_ G xA xa_trays xa_tape (nI tp) x_faultKind x_faultAt xa_bad xa_refused 0 x_above x_under nA xa_marks x_markMany xa_pictures x_lead x_round xa_ways x_bestSet x_bestMany x_left xa_aside xa_last x_hasLived uA n_year) ++ (xT_ G xa_tape xtape)) H := hP
        have hD : va_D A ((xA_ G xA xa_trays xa_tape (nI tp) x_faultKind x_faultAt xa_bad xa_refused 0 x_above x_under nA xa_marks x_markMany xa_pictures x_lead x_round xa_ways x_bestSet x_bestMany x_left xa_aside xa_last x_hasLived uA n_year) ++ (xT_ G xa_tape xtape)) := hD
        refine lv_aload_n hx hb dX0_opens_26 rfl (lv_at hl 0 rfl) ?_
        refine va_get (D := G.1) (ci := 0) (v := .int 0) (C := RX0) (T := TX0) (N := 23) hx hb hts in_X0 hown hK.1 hP 0 rfl rfl 7 (Nat.le_of_ble_eq_true rfl) (hts _ q432) (fun _ h => h) rfl dX0_opens_27 ?_
        refine lv_if_le (tgt := 35) hx hb dX0_opens_30 (by decide) (fun _ => ?_) (fun z => absurd (by decide) z)
        refine lv_aload_n hx hb dX0_opens_35 rfl (lv_at hl 0 rfl) ?_
        refine lv_iconst (v := 0) hx hb dX0_opens_36 (by decide) ?_
        refine va_put (D := G.1) (ci := 0) (v := .int 0) (ty := .int) (C := RX0) (T := TX0) (N := 23) hx hb hts in_X0 tyX0 tyX0_ok nmX0 hown hK.1 hP hD hS 0 rfl rfl 2 (Nat.le_of_ble_eq_true rfl) (hts _ q426) (fun _ h => h) rfl (tyX0_ok 2 (Nat.le_of_ble_eq_true rfl)) rfl rfl (Nat.le_of_ble_eq_true rfl) dX0_opens_37 (fun H locs hP hD hS => ?_)
        have hP : va_P G.1 zcl ((xA_ G xA xa_trays xa_tape 0 x_faultKind x_faultAt xa_bad xa_refused 0 x_above x_under nA xa_marks x_markMany xa_pictures x_lead x_round xa_ways x_bestSet x_bestMany x_left xa_aside xa_last x_hasLived uA n_year) ++ (xT_ G xa_tape xtape)) H := hP
        have hD : va_D A ((xA_ G xA xa_trays xa_tape 0 x_faultKind x_faultAt xa_bad xa_refused 0 x_above x_under nA xa_marks x_markMany xa_pictures x_lead x_round xa_ways x_bestSet x_bestMany x_left xa_aside xa_last x_hasLived uA n_year) ++ (xT_ G xa_tape xtape)) := hD
        refine lv_aload_n hx hb dX0_opens_40 rfl (lv_at hl 0 rfl) ?_
        refine lv_iconst (v := 0) hx hb dX0_opens_41 (by decide) ?_
        refine va_put (D := G.1) (ci := 0) (v := .int 0) (ty := .int) (C := RX0) (T := TX0) (N := 23) hx hb hts in_X0 tyX0 tyX0_ok nmX0 hown hK.1 hP hD hS 0 rfl rfl 3 (Nat.le_of_ble_eq_true rfl) (hts _ q427) (fun _ h => h) rfl (tyX0_ok 3 (Nat.le_of_ble_eq_true rfl)) rfl rfl (Nat.le_of_ble_eq_true rfl) dX0_opens_42 (fun H locs hP hD hS => ?_)
        have hP : va_P G.1 zcl ((xA_ G xA xa_trays xa_tape 0 0 x_faultAt xa_bad xa_refused 0 x_above x_under nA xa_marks x_markMany xa_pictures x_lead x_round xa_ways x_bestSet x_bestMany x_left xa_aside xa_last x_hasLived uA n_year) ++ (xT_ G xa_tape xtape)) H := hP
        have hD : va_D A ((xA_ G xA xa_trays xa_tape 0 0 x_faultAt xa_bad xa_refused 0 x_above x_under nA xa_marks x_markMany xa_pictures x_lead x_round xa_ways x_bestSet x_bestMany x_left xa_aside xa_last x_hasLived uA n_year) ++ (xT_ G xa_tape xtape)) := hD
        refine lv_aload_n hx hb dX0_opens_45 rfl (lv_at hl 0 rfl) ?_
        refine lv_iconst (v := (-1)) hx hb dX0_opens_46 (by decide) ?_
        refine va_put (D := G.1) (ci := 0) (v := .int (-1)) (ty := .int) (C := RX0) (T := TX0) (N := 23) hx hb hts in_X0 tyX0 tyX0_ok nmX0 hown hK.1 hP hD hS 0 rfl rfl 4 (Nat.le_of_ble_eq_true rfl) (hts _ q428) (fun _ h => h) rfl (tyX0_ok 4 (Nat.le_of_ble_eq_true rfl)) rfl rfl (Nat.le_of_ble_eq_true rfl) dX0_opens_47 (fun H locs hP hD hS => ?_)
        have hP : va_P G.1 zcl ((xA_ G xA xa_trays xa_tape 0 0 (-1) xa_bad xa_refused 0 x_above x_under nA xa_marks x_markMany xa_pictures x_lead x_round xa_ways x_bestSet x_bestMany x_left xa_aside xa_last x_hasLived uA n_year) ++ (xT_ G xa_tape xtape)) H := hP
        have hD : va_D A ((xA_ G xA xa_trays xa_tape 0 0 (-1) xa_bad xa_refused 0 x_above x_under nA xa_marks x_markMany xa_pictures x_lead x_round xa_ways x_bestSet x_bestMany x_left xa_aside xa_last x_hasLived uA n_year) ++ (xT_ G xa_tape xtape)) := hD
        refine lv_iconst (v := 1) hx hb dX0_opens_50 (by decide) ?_
        have e_ : xf_opens tp x_faultKind x_faultAt nn most = (true, 0, 0, (-1), 0) := by rw [xf_opens, if_neg c_1, if_neg c_2, if_pos c_3]
        exact zr_mz hx hb hr hlocks hP hD hS dX0_opens_51 rfl (by rw [e_]; rfl) (by rw [e_] <;> rfl) trivial
      · refine lv_iconst (v := 1) hx hb dX0_opens_18 (by decide) ?_
        refine lv_goto (tgt := 23) hx hb dX0_opens_19 (by decide) ?_
        refine va_put (D := G.1) (ci := 0) (v := .int 1) (ty := .int) (C := RX0) (T := TX0) (N := 23) hx hb hts in_X0 tyX0 tyX0_ok nmX0 hown hK.1 hP hD hS 0 rfl rfl 7 (Nat.le_of_ble_eq_true rfl) (hts _ q432) (fun _ h => h) rfl (tyX0_ok 7 (Nat.le_of_ble_eq_true rfl)) rfl rfl (Nat.le_of_ble_eq_true rfl) dX0_opens_23 (fun H locs hP hD hS => ?_)
        have hP : va_P G.1 zcl ((xA_ G xA xa_trays xa_tape (nI tp) x_faultKind x_faultAt xa_bad xa_refused 1 x_above x_under nA xa_marks x_markMany xa_pictures x_lead x_round xa_ways x_bestSet x_bestMany x_left xa_aside xa_last x_hasLived uA n_year) ++ (xT_ G xa_tape xtape)) H := hP
        have hD : va_D A ((xA_ G xA xa_trays xa_tape (nI tp) x_faultKind x_faultAt xa_bad xa_refused 1 x_above x_under nA xa_marks x_markMany xa_pictures x_lead x_round xa_ways x_bestSet x_bestMany x_left xa_aside xa_last x_hasLived uA n_year) ++ (xT_ G xa_tape xtape)) := hD
        refine lv_aload_n hx hb dX0_opens_26 rfl (lv_at hl 0 rfl) ?_
        refine va_get (D := G.1) (ci := 0) (v := .int 1) (C := RX0) (T := TX0) (N := 23) hx hb hts in_X0 hown hK.1 hP 0 rfl rfl 7 (Nat.le_of_ble_eq_true rfl) (hts _ q432) (fun _ h => h) rfl dX0_opens_27 ?_
        refine lv_if_le (tgt := 35) hx hb dX0_opens_30 (by decide) (fun z => absurd z (by decide)) (fun _ => ?_)
        refine lv_iconst (v := 0) hx hb dX0_opens_33 (by decide) ?_
        have e_ : xf_opens tp x_faultKind x_faultAt nn most = (false, tp, x_faultKind, x_faultAt, 1) := by rw [xf_opens, if_neg c_1, if_neg c_2, if_neg c_3]
        exact zr_mz hx hb hr hlocks hP hD hS dX0_opens_34 rfl (by rw [e_]; rfl) (by rw [e_] <;> rfl) trivial
theorem opens_t {x_taped : Nat} {k1 k2 st : Int32} {nn most : Int32} : True := trivial
def xf_faulty (b_kind : Int32) (b_place : Int32) : Int32 × Int32 × Int32 × Int32 :=
  ((-1), b_kind, b_place, 9)
theorem hd_X0_faulty : yX0_faulty.cls = RX0 ∧ yX0_faulty.cls ≠ "java/lang/invoke/MethodHandle" ∧ yX0_faulty.cls ≠ "java/lang/invoke/VarHandle" ∧ (parseMethodDescriptor yX0_faulty.desc).map (fun d => d.parameters.length) = some 1 := by decide +kernel
set_option maxHeartbeats 4000000 in
set_option maxRecDepth 100000 in
theorem mt_xf_faulty (l : Launch) (G : zG) (xA : Nat) (xa_trays : Nat) (xa_tape : Nat) (x_taped : Int32) (x_faultKind : Int32) (x_faultAt : Int32) (xa_bad : Nat) (xa_refused : Nat) (x_status : Int32) (x_above : Int64) (x_under : Int64) (nA : Nat) (xa_marks : Nat) (x_markMany : Int32) (xa_pictures : Nat) (x_lead : Int32) (x_round : Int32) (xa_ways : Nat) (x_bestSet : Int32) (x_bestMany : Int32) (x_left : Int32) (xa_aside : Nat) (xa_last : Nat) (x_hasLived : Bool) (uA : Nat) (n_year : Option Nat) (b_v0 : Value) (b_v1 : Value) (b_v2 : Value) (b_v3 : Value) (b_v4 : Value) (b_v5 : Value) (b_kind : Int32) (b_place : Int32) (sz : Nat) : Met l yX0_faulty (ws_ yX0_faulty cX0_faulty 2 (some .int)) (zR 1 0 0) (zPm G sz [.ref xA, .ref xa_bad] ((xA_ G xA xa_trays xa_tape x_taped x_faultKind x_faultAt xa_bad xa_refused x_status x_above x_under nA xa_marks x_markMany xa_pictures x_lead x_round xa_ways x_bestSet x_bestMany x_left xa_aside xa_last x_hasLived uA n_year) ++ (bW_ G xa_bad b_v0 b_v1 b_v2 b_v3 b_v4 b_v5 b_kind b_place))) (zQm G (True) (some (.int ((xf_faulty b_kind b_place).1))) ((xA_ G xA xa_trays xa_tape x_taped ((xf_faulty b_kind b_place).2.1) ((xf_faulty b_kind b_place).2.2.1) xa_bad xa_refused ((xf_faulty b_kind b_place).2.2.2) x_above x_under nA xa_marks x_markMany xa_pictures x_lead x_round xa_ways x_bestSet x_bestMany x_left xa_aside xa_last x_hasLived uA n_year) ++ (bW_ G xa_bad b_v0 b_v1 b_v2 b_v3 b_v4 b_v5 b_kind b_place)) (va_A ((xA_ G xA xa_trays xa_tape x_taped x_faultKind x_faultAt xa_bad xa_refused x_status x_above x_under nA xa_marks x_markMany xa_pictures x_lead x_round xa_ways x_bestSet x_bestMany x_left xa_aside xa_last x_hasLived uA n_year) ++ (bW_ G xa_bad b_v0 b_v1 b_v2 b_v3 b_v4 b_v5 b_kind b_place)) sz)) 0 0 (va_A ((xA_ G xA xa_trays xa_tape x_taped x_faultKind x_faultAt xa_bad xa_refused x_status x_above x_under nA xa_marks x_markMany xa_pictures x_lead x_round xa_ways x_bestSet x_bestMany x_left xa_aside xa_last x_hasLived uA n_year) ++ (bW_ G xa_bad b_v0 b_v1 b_v2 b_v3 b_v4 b_v5 b_kind b_place)) sz) := by
  refine zr_entM (by decide) (Nat.le_of_ble_eq_true rfl) ?_
  intro p e s m below meth c ⟨hx, hb, hr, hml, hown, hts, hlocks, hnm⟩ ls hl hP hK A hE hA hD hS
  have hown : s.vm.findClass RX0 = some m.cls := hown
  have hl : lv_has ls 2 [(0, .ref xA), (1, .ref xa_bad)] := hl
  obtain ⟨H, hH⟩ : ∃ H, H = s.heap := ⟨_, rfl⟩
  obtain ⟨locs, hlo⟩ : ∃ L : List Loc, L = [] := ⟨_, rfl⟩
  rw [← hH] at hP
  have hS : va_S A s.heap H locs := by rw [hH, hlo]; exact va_S.rf
  have hgo : W p l e (zR 1 0 0) s m ([.ref xA, .ref xa_bad] : List Value).toArray below meth c H locs 0 0 (MQ below (zQm G (True) (some (.int ((xf_faulty b_kind b_place).1))) ((xA_ G xA xa_trays xa_tape x_taped ((xf_faulty b_kind b_place).2.1) ((xf_faulty b_kind b_place).2.2.1) xa_bad xa_refused ((xf_faulty b_kind b_place).2.2.2) x_above x_under nA xa_marks x_markMany xa_pictures x_lead x_round xa_ways x_bestSet x_bestMany x_left xa_aside xa_last x_hasLived uA n_year) ++ (bW_ G xa_bad b_v0 b_v1 b_v2 b_v3 b_v4 b_v5 b_kind b_place)) A) ([.ref xA, .ref xa_bad] : List Value).toArray s 0 0 A) (F0 m 0 ls []) := ?_
  · rw [hH, hlo] at hgo; exact hgo
  clear hH hlo
  refine lv_aload_n hx hb dX0_faulty_0 rfl (lv_at hl 0 rfl) ?_
  refine lv_aload_n hx hb dX0_faulty_1 rfl (lv_at hl 1 rfl) ?_
  refine va_getN (D := G.1) (ci := 2) (v := .int b_kind) (C := RX2) (T := TX2) (N := 8) hx hb hts in_X2 hown hK.1 hP 2 rfl rfl 6 (Nat.le_of_ble_eq_true rfl) ((hK.2.1.1 _ (List.mem_of_getElem? (i := 8) rfl)).use rfl) (fun _ h => h) rfl dX0_faulty_2 ?_
  refine va_put (D := G.1) (ci := 0) (v := .int b_kind) (ty := .int) (C := RX0) (T := TX0) (N := 23) hx hb hts in_X0 tyX0 tyX0_ok nmX0 hown hK.1 hP hD hS 0 rfl rfl 3 (Nat.le_of_ble_eq_true rfl) (hts _ q427) (fun _ h => h) rfl (tyX0_ok 3 (Nat.le_of_ble_eq_true rfl)) rfl rfl (Nat.le_of_ble_eq_true rfl) dX0_faulty_5 (fun H locs hP hD hS => ?_)
  have hP : va_P G.1 zcl ((xA_ G xA xa_trays xa_tape x_taped b_kind x_faultAt xa_bad xa_refused x_status x_above x_under nA xa_marks x_markMany xa_pictures x_lead x_round xa_ways x_bestSet x_bestMany x_left xa_aside xa_last x_hasLived uA n_year) ++ (bW_ G xa_bad b_v0 b_v1 b_v2 b_v3 b_v4 b_v5 b_kind b_place)) H := hP
  have hD : va_D A ((xA_ G xA xa_trays xa_tape x_taped b_kind x_faultAt xa_bad xa_refused x_status x_above x_under nA xa_marks x_markMany xa_pictures x_lead x_round xa_ways x_bestSet x_bestMany x_left xa_aside xa_last x_hasLived uA n_year) ++ (bW_ G xa_bad b_v0 b_v1 b_v2 b_v3 b_v4 b_v5 b_kind b_place)) := hD
  refine lv_aload_n hx hb dX0_faulty_8 rfl (lv_at hl 0 rfl) ?_
  refine lv_aload_n hx hb dX0_faulty_9 rfl (lv_at hl 1 rfl) ?_
  refine va_getN (D := G.1) (ci := 2) (v := .int b_place) (C := RX2) (T := TX2) (N := 8) hx hb hts in_X2 hown hK.1 hP 2 rfl rfl 7 (Nat.le_of_ble_eq_true rfl) ((hK.2.1.1 _ (List.mem_of_getElem? (i := 9) rfl)).use rfl) (fun _ h => h) rfl dX0_faulty_10 ?_
  refine va_put (D := G.1) (ci := 0) (v := .int b_place) (ty := .int) (C := RX0) (T := TX0) (N := 23) hx hb hts in_X0 tyX0 tyX0_ok nmX0 hown hK.1 hP hD hS 0 rfl rfl 4 (Nat.le_of_ble_eq_true rfl) (hts _ q428) (fun _ h => h) rfl (tyX0_ok 4 (Nat.le_of_ble_eq_true rfl)) rfl rfl (Nat.le_of_ble_eq_true rfl) dX0_faulty_13 (fun H locs hP hD hS => ?_)
  have hP : va_P G.1 zcl ((xA_ G xA xa_trays xa_tape x_taped b_kind b_place xa_bad xa_refused x_status x_above x_under nA xa_marks x_markMany xa_pictures x_lead x_round xa_ways x_bestSet x_bestMany x_left xa_aside xa_last x_hasLived uA n_year) ++ (bW_ G xa_bad b_v0 b_v1 b_v2 b_v3 b_v4 b_v5 b_kind b_place)) H := hP
  have hD : va_D A ((xA_ G xA xa_trays xa_tape x_taped b_kind b_place xa_bad xa_refused x_status x_above x_under nA xa_marks x_markMany xa_pictures x_lead x_round xa_ways x_bestSet x_bestMany x_left xa_aside xa_last x_hasLived uA n_year) ++ (bW_ G xa_bad b_v0 b_v1 b_v2 b_v3 b_v4 b_v5 b_kind b_place)) := hD
  refine lv_aload_n hx hb dX0_faulty_16 rfl (lv_at hl 0 rfl) ?_
  refine lv_bipush (v := 9) hx hb dX0_faulty_17 (by decide) ?_
  refine va_put (D := G.1) (ci := 0) (v := .int 9) (ty := .int) (C := RX0) (T := TX0) (N := 23) hx hb hts in_X0 tyX0 tyX0_ok nmX0 hown hK.1 hP hD hS 0 rfl rfl 7 (Nat.le_of_ble_eq_true rfl) (hts _ q432) (fun _ h => h) rfl (tyX0_ok 7 (Nat.le_of_ble_eq_true rfl)) rfl rfl (Nat.le_of_ble_eq_true rfl) dX0_faulty_19 (fun H locs hP hD hS => ?_)
  have hP : va_P G.1 zcl ((xA_ G xA xa_trays xa_tape x_taped b_kind b_place xa_bad xa_refused 9 x_above x_under nA xa_marks x_markMany xa_pictures x_lead x_round xa_ways x_bestSet x_bestMany x_left xa_aside xa_last x_hasLived uA n_year) ++ (bW_ G xa_bad b_v0 b_v1 b_v2 b_v3 b_v4 b_v5 b_kind b_place)) H := hP
  have hD : va_D A ((xA_ G xA xa_trays xa_tape x_taped b_kind b_place xa_bad xa_refused 9 x_above x_under nA xa_marks x_markMany xa_pictures x_lead x_round xa_ways x_bestSet x_bestMany x_left xa_aside xa_last x_hasLived uA n_year) ++ (bW_ G xa_bad b_v0 b_v1 b_v2 b_v3 b_v4 b_v5 b_kind b_place)) := hD
  refine lv_iconst (v := (-1)) hx hb dX0_faulty_22 (by decide) ?_
  have e_ : xf_faulty b_kind b_place = ((-1), b_kind, b_place, 9) := by rw [xf_faulty]
  exact zr_mi hx hb hr hlocks hP hD hS dX0_faulty_23 (by rw [e_])  (by rw [e_]) trivial
def vW_ (G : zG) (vA : Nat) (vT : Nat) (vA_bo : Nat) (vA_st : Nat) (vA_se : Nat) (vlit : Int32) (vmayor : Int32) (vnight : Int32) (voil : Int32) (vborn : Nat → Int32) (vstays : Nat → Int32) (vseen : Nat → Int32) : va_W := [(vA, .inr (5, [.ref vT, .ref vA_bo, .ref vA_st, .ref vA_se, .int vlit, .int vmayor, .int vnight, .int voil])), (vA_bo, .inl (G.2 0, 4, .inl vborn)), (vA_st, .inl (G.2 0, 4, .inl vstays)), (vA_se, .inl (G.2 0, 10, .inl vseen))]
def hf_be (uborn : Nat → Int32) (ustays : Nat → Int32) (useen : Nat → Int32) (vT : Nat) (vlit : Int32) (vmayor : Int32) (vnight : Int32) (voil : Int32) (vborn : Nat → Int32) (vstays : Nat → Int32) (vseen : Nat → Int32) : Nat × Int32 × Int32 × Int32 × Int32 × (Nat → Int32) × (Nat → Int32) × (Nat → Int32) :=
  (vT, vlit, vmayor, vnight, voil, va_cpy vborn uborn 0 0 4, va_cpy vstays ustays 0 0 4, va_cpy vseen useen 0 0 10)
theorem hd_X5_be : yX5_be.cls = RX5 ∧ yX5_be.cls ≠ "java/lang/invoke/MethodHandle" ∧ yX5_be.cls ≠ "java/lang/invoke/VarHandle" ∧ (parseMethodDescriptor yX5_be.desc).map (fun d => d.parameters.length) = some 1 := by decide +kernel
set_option maxHeartbeats 4000000 in
set_option maxRecDepth 100000 in
theorem mt_hf_be (l : Launch) (G : zG) (uA : Nat) (tA : Nat) (uA_bo : Nat) (uA_st : Nat) (uA_se : Nat) (ulit : Int32) (umayor : Int32) (unight : Int32) (uoil : Int32) (uborn : Nat → Int32) (ustays : Nat → Int32) (useen : Nat → Int32) (vA : Nat) (vT : Nat) (vA_bo : Nat) (vA_st : Nat) (vA_se : Nat) (vlit : Int32) (vmayor : Int32) (vnight : Int32) (voil : Int32) (vborn : Nat → Int32) (vstays : Nat → Int32) (vseen : Nat → Int32) (sz : Nat) : Met l yX5_be (ws_ yX5_be cX5_be 2 none) (zR 2 0 0) (zPm G sz [.ref uA, .ref vA] ((hW G uA tA uA_bo uA_st uA_se ulit umayor unight uoil uborn ustays useen) ++ (vW_ G vA vT vA_bo vA_st vA_se vlit vmayor vnight voil vborn vstays vseen))) (zQm G (True) none ((hW G uA ((hf_be uborn ustays useen vT vlit vmayor vnight voil vborn vstays vseen).1) uA_bo uA_st uA_se ((hf_be uborn ustays useen vT vlit vmayor vnight voil vborn vstays vseen).2.1) ((hf_be uborn ustays useen vT vlit vmayor vnight voil vborn vstays vseen).2.2.1) ((hf_be uborn ustays useen vT vlit vmayor vnight voil vborn vstays vseen).2.2.2.1) ((hf_be uborn ustays useen vT vlit vmayor vnight voil vborn vstays vseen).2.2.2.2.1) ((hf_be uborn ustays useen vT vlit vmayor vnight voil vborn vstays vseen).2.2.2.2.2.1) ((hf_be uborn ustays useen vT vlit vmayor vnight voil vborn vstays vseen).2.2.2.2.2.2.1) ((hf_be uborn ustays useen vT vlit vmayor vnight voil vborn vstays vseen).2.2.2.2.2.2.2)) ++ (vW_ G vA vT vA_bo vA_st vA_se vlit vmayor vnight voil vborn vstays vseen)) (va_A ((hW G uA tA uA_bo uA_st uA_se ulit umayor unight uoil uborn ustays useen) ++ (vW_ G vA vT vA_bo vA_st vA_se vlit vmayor vnight voil vborn vstays vseen)) sz)) 0 0 (va_A ((hW G uA tA uA_bo uA_st uA_se ulit umayor unight uoil uborn ustays useen) ++ (vW_ G vA vT vA_bo vA_st vA_se vlit vmayor vnight voil vborn vstays vseen)) sz) := by
  refine zr_entM (by decide) (Nat.le_of_ble_eq_true rfl) ?_
  intro p e s m below meth c ⟨hx, hb, hr, hml, hown, hts, hlocks, hnm⟩ ls hl hP hK A hE hA hD hS
  have hown : s.vm.findClass RX5 = some m.cls := hown
  have hl : lv_has ls 2 [(0, .ref uA), (1, .ref vA)] := hl
  obtain ⟨H, hH⟩ : ∃ H, H = s.heap := ⟨_, rfl⟩
  obtain ⟨locs, hlo⟩ : ∃ L : List Loc, L = [] := ⟨_, rfl⟩
  rw [← hH] at hP
  have hS : va_S A s.heap H locs := by rw [hH, hlo]; exact va_S.rf
  have hgo : W p l e (zR 2 0 0) s m ([.ref uA, .ref vA] : List Value).toArray below meth c H locs 0 0 (MQ below (zQm G (True) none ((hW G uA ((hf_be uborn ustays useen vT vlit vmayor vnight voil vborn vstays vseen).1) uA_bo uA_st uA_se ((hf_be uborn ustays useen vT vlit vmayor vnight voil vborn vstays vseen).2.1) ((hf_be uborn ustays useen vT vlit vmayor vnight voil vborn vstays vseen).2.2.1) ((hf_be uborn ustays useen vT vlit vmayor vnight voil vborn vstays vseen).2.2.2.1) ((hf_be uborn ustays useen vT vlit vmayor vnight voil vborn vstays vseen).2.2.2.2.1) ((hf_be uborn ustays useen vT vlit vmayor vnight voil vborn vstays vseen).2.2.2.2.2.1) ((hf_be uborn ustays useen vT vlit vmayor vnight voil vborn vstays vseen).2.2.2.2.2.2.1) ((hf_be uborn ustays useen vT vlit vmayor vnight voil vborn vstays vseen).2.2.2.2.2.2.2)) ++ (vW_ G vA vT vA_bo vA_st vA_se vlit vmayor vnight voil vborn vstays vseen)) A) ([.ref uA, .ref vA] : List Value).toArray s 0 0 A) (F0 m 0 ls []) := ?_
  · rw [hH, hlo] at hgo; exact hgo
  clear hH hlo
  refine lv_aload_n hx hb dX5_be_0 rfl (lv_at hl 0 rfl) ?_
  refine lv_aload_n hx hb dX5_be_1 rfl (lv_at hl 1 rfl) ?_
  refine va_get (D := G.1) (ci := 5) (v := .ref vT) (C := RX5) (T := TX5) (N := 8) hx hb hts in_X5 hown hK.1 hP 4 rfl rfl 0 (Nat.le_of_ble_eq_true rfl) (hts _ q372) (fun _ h => h) rfl dX5_be_2 ?_
  refine va_put (D := G.1) (ci := 5) (v := .ref vT) (ty := (.object "WindowHill$Town")) (C := RX5) (T := TX5) (N := 8) hx hb hts in_X5 tyX5 tyX5_ok nmX5 hown hK.1 hP hD hS 0 rfl rfl 0 (Nat.le_of_ble_eq_true rfl) (hts _ q372) (fun _ h => h) rfl (tyX5_ok 0 (Nat.le_of_ble_eq_true rfl)) rfl rfl (Nat.le_of_ble_eq_true rfl) dX5_be_5 (fun H locs hP hD hS => ?_)
  have hP : va_P G.1 zcl ((hW G uA vT uA_bo uA_st uA_se ulit umayor unight uoil uborn ustays useen) ++ (vW_ G vA vT vA_bo vA_st vA_se vlit vmayor vnight voil vborn vstays vseen)) H := hP
  have hD : va_D A ((hW G uA vT uA_bo uA_st uA_se ulit umayor unight uoil uborn ustays useen) ++ (vW_ G vA vT vA_bo vA_st vA_se vlit vmayor vnight voil vborn vstays vseen)) := hD
  refine lv_aload_n hx hb dX5_be_8 rfl (lv_at hl 1 rfl) ?_
  refine va_get (D := G.1) (ci := 5) (v := .ref vA_bo) (C := RX5) (T := TX5) (N := 8) hx hb hts in_X5 hown hK.1 hP 4 rfl rfl 1 (Nat.le_of_ble_eq_true rfl) (hts _ q375) (fun _ h => h) rfl dX5_be_9 ?_
  refine lv_iconst (v := 0) hx hb dX5_be_12 (by decide) ?_
  refine lv_aload_n hx hb dX5_be_13 rfl (lv_at hl 0 rfl) ?_
  refine va_get (D := G.1) (ci := 5) (v := .ref uA_bo) (C := RX5) (T := TX5) (N := 8) hx hb hts in_X5 hown hK.1 hP 0 rfl rfl 1 (Nat.le_of_ble_eq_true rfl) (hts _ q375) (fun _ h => h) rfl dX5_be_14 ?_
  refine lv_iconst (v := 0) hx hb dX5_be_17 (by decide) ?_
  refine lv_iconst (v := 4) hx hb dX5_be_18 (by decide) ?_
  refine zr_copyi 4 (ws' := ((hW G uA vT uA_bo uA_st uA_se ulit umayor unight uoil (va_cpy vborn uborn 0 0 4) ustays useen) ++ (vW_ G vA vT vA_bo vA_st vA_se vlit vmayor vnight voil vborn vstays vseen))) hx hb (hml.trans hl.1.symm) hown (hts _ q849) (hts _ q612) (hts _ q611) (hts _ q150) hK hP hD hS 5 1 rfl rfl rfl rfl rfl (by decide) (by decide) (by decide) rfl (Nat.le_of_ble_eq_true rfl) ⟨(Nat.le_of_ble_eq_true rfl), (Nat.le_of_ble_eq_true rfl)⟩ dX5_be_19 (fun H locs hP hD hS => ?_)
  refine lv_aload_n hx hb dX5_be_22 rfl (lv_at hl 1 rfl) ?_
  refine va_get (D := G.1) (ci := 5) (v := .ref vA_st) (C := RX5) (T := TX5) (N := 8) hx hb hts in_X5 hown hK.1 hP 4 rfl rfl 2 (Nat.le_of_ble_eq_true rfl) (hts _ q377) (fun _ h => h) rfl dX5_be_23 ?_
  refine lv_iconst (v := 0) hx hb dX5_be_26 (by decide) ?_
  refine lv_aload_n hx hb dX5_be_27 rfl (lv_at hl 0 rfl) ?_
  refine va_get (D := G.1) (ci := 5) (v := .ref uA_st) (C := RX5) (T := TX5) (N := 8) hx hb hts in_X5 hown hK.1 hP 0 rfl rfl 2 (Nat.le_of_ble_eq_true rfl) (hts _ q377) (fun _ h => h) rfl dX5_be_28 ?_
  refine lv_iconst (v := 0) hx hb dX5_be_31 (by decide) ?_
  refine lv_iconst (v := 4) hx hb dX5_be_32 (by decide) ?_
  refine zr_copyi 4 (ws' := ((hW G uA vT uA_bo uA_st uA_se ulit umayor unight uoil (va_cpy vborn uborn 0 0 4) (va_cpy vstays ustays 0 0 4) useen) ++ (vW_ G vA vT vA_bo vA_st vA_se vlit vmayor vnight voil vborn vstays vseen))) hx hb (hml.trans hl.1.symm) hown (hts _ q849) (hts _ q612) (hts _ q611) (hts _ q150) hK hP hD hS 6 2 rfl rfl rfl rfl rfl (by decide) (by decide) (by decide) rfl (Nat.le_of_ble_eq_true rfl) ⟨(Nat.le_of_ble_eq_true rfl), (Nat.le_of_ble_eq_true rfl)⟩ dX5_be_33 (fun H locs hP hD hS => ?_)
  refine lv_aload_n hx hb dX5_be_36 rfl (lv_at hl 1 rfl) ?_
  refine va_get (D := G.1) (ci := 5) (v := .ref vA_se) (C := RX5) (T := TX5) (N := 8) hx hb hts in_X5 hown hK.1 hP 4 rfl rfl 3 (Nat.le_of_ble_eq_true rfl) (hts _ q379) (fun _ h => h) rfl dX5_be_37 ?_
  refine lv_iconst (v := 0) hx hb dX5_be_40 (by decide) ?_
  refine lv_aload_n hx hb dX5_be_41 rfl (lv_at hl 0 rfl) ?_
  refine va_get (D := G.1) (ci := 5) (v := .ref uA_se) (C := RX5) (T := TX5) (N := 8) hx hb hts in_X5 hown hK.1 hP 0 rfl rfl 3 (Nat.le_of_ble_eq_true rfl) (hts _ q379) (fun _ h => h) rfl dX5_be_42 ?_
  refine lv_iconst (v := 0) hx hb dX5_be_45 (by decide) ?_
  refine lv_aload_n hx hb dX5_be_46 rfl (lv_at hl 0 rfl) ?_
  refine va_get (D := G.1) (ci := 5) (v := .ref uA_se) (C := RX5) (T := TX5) (N := 8) hx hb hts in_X5 hown hK.1 hP 0 rfl rfl 3 (Nat.le_of_ble_eq_true rfl) (hts _ q379) (fun _ h => h) rfl dX5_be_47 ?_
  refine va_alen hx hb hK.1 hP 3 0 rfl rfl (v := 10) rfl dX5_be_50 ?_
  refine zr_copyi 10 (ws' := ((hW G uA vT uA_bo uA_st uA_se ulit umayor unight uoil (va_cpy vborn uborn 0 0 4) (va_cpy vstays ustays 0 0 4) (va_cpy vseen useen 0 0 10)) ++ (vW_ G vA vT vA_bo vA_st vA_se vlit vmayor vnight voil vborn vstays vseen))) hx hb (hml.trans hl.1.symm) hown (hts _ q849) (hts _ q612) (hts _ q611) (hts _ q150) hK hP hD hS 7 3 rfl rfl rfl rfl rfl (by decide) (by decide) (by decide) rfl (Nat.le_of_ble_eq_true rfl) ⟨(Nat.le_of_ble_eq_true rfl), (Nat.le_of_ble_eq_true rfl)⟩ dX5_be_51 (fun H locs hP hD hS => ?_)
  refine lv_aload_n hx hb dX5_be_54 rfl (lv_at hl 0 rfl) ?_
  refine lv_aload_n hx hb dX5_be_55 rfl (lv_at hl 1 rfl) ?_
  refine va_get (D := G.1) (ci := 5) (v := .int vlit) (C := RX5) (T := TX5) (N := 8) hx hb hts in_X5 hown hK.1 hP 4 rfl rfl 4 (Nat.le_of_ble_eq_true rfl) (hts _ q382) (fun _ h => h) rfl dX5_be_56 ?_
  refine va_put (D := G.1) (ci := 5) (v := .int vlit) (ty := .int) (C := RX5) (T := TX5) (N := 8) hx hb hts in_X5 tyX5 tyX5_ok nmX5 hown hK.1 hP hD hS 0 rfl rfl 4 (Nat.le_of_ble_eq_true rfl) (hts _ q382) (fun _ h => h) rfl (tyX5_ok 4 (Nat.le_of_ble_eq_true rfl)) rfl rfl (Nat.le_of_ble_eq_true rfl) dX5_be_59 (fun H locs hP hD hS => ?_)
  have hP : va_P G.1 zcl ((hW G uA vT uA_bo uA_st uA_se vlit umayor unight uoil (va_cpy vborn uborn 0 0 4) (va_cpy vstays ustays 0 0 4) (va_cpy vseen useen 0 0 10)) ++ (vW_ G vA vT vA_bo vA_st vA_se vlit vmayor vnight voil vborn vstays vseen)) H := hP
  have hD : va_D A ((hW G uA vT uA_bo uA_st uA_se vlit umayor unight uoil (va_cpy vborn uborn 0 0 4) (va_cpy vstays ustays 0 0 4) (va_cpy vseen useen 0 0 10)) ++ (vW_ G vA vT vA_bo vA_st vA_se vlit vmayor vnight voil vborn vstays vseen)) := hD
  refine lv_aload_n hx hb dX5_be_62 rfl (lv_at hl 0 rfl) ?_
  refine lv_aload_n hx hb dX5_be_63 rfl (lv_at hl 1 rfl) ?_
  refine va_get (D := G.1) (ci := 5) (v := .int vmayor) (C := RX5) (T := TX5) (N := 8) hx hb hts in_X5 hown hK.1 hP 4 rfl rfl 5 (Nat.le_of_ble_eq_true rfl) (hts _ q385) (fun _ h => h) rfl dX5_be_64 ?_
  refine va_put (D := G.1) (ci := 5) (v := .int vmayor) (ty := .int) (C := RX5) (T := TX5) (N := 8) hx hb hts in_X5 tyX5 tyX5_ok nmX5 hown hK.1 hP hD hS 0 rfl rfl 5 (Nat.le_of_ble_eq_true rfl) (hts _ q385) (fun _ h => h) rfl (tyX5_ok 5 (Nat.le_of_ble_eq_true rfl)) rfl rfl (Nat.le_of_ble_eq_true rfl) dX5_be_67 (fun H locs hP hD hS => ?_)
  have hP : va_P G.1 zcl ((hW G uA vT uA_bo uA_st uA_se vlit vmayor unight uoil (va_cpy vborn uborn 0 0 4) (va_cpy vstays ustays 0 0 4) (va_cpy vseen useen 0 0 10)) ++ (vW_ G vA vT vA_bo vA_st vA_se vlit vmayor vnight voil vborn vstays vseen)) H := hP
  have hD : va_D A ((hW G uA vT uA_bo uA_st uA_se vlit vmayor unight uoil (va_cpy vborn uborn 0 0 4) (va_cpy vstays ustays 0 0 4) (va_cpy vseen useen 0 0 10)) ++ (vW_ G vA vT vA_bo vA_st vA_se vlit vmayor vnight voil vborn vstays vseen)) := hD
  refine lv_aload_n hx hb dX5_be_70 rfl (lv_at hl 0 rfl) ?_
  refine lv_aload_n hx hb dX5_be_71 rfl (lv_at hl 1 rfl) ?_
  refine va_get (D := G.1) (ci := 5) (v := .int vnight) (C := RX5) (T := TX5) (N := 8) hx hb hts in_X5 hown hK.1 hP 4 rfl rfl 6 (Nat.le_of_ble_eq_true rfl) (hts _ q388) (fun _ h => h) rfl dX5_be_72 ?_
  refine va_put (D := G.1) (ci := 5) (v := .int vnight) (ty := .int) (C := RX5) (T := TX5) (N := 8) hx hb hts in_X5 tyX5 tyX5_ok nmX5 hown hK.1 hP hD hS 0 rfl rfl 6 (Nat.le_of_ble_eq_true rfl) (hts _ q388) (fun _ h => h) rfl (tyX5_ok 6 (Nat.le_of_ble_eq_true rfl)) rfl rfl (Nat.le_of_ble_eq_true rfl) dX5_be_75 (fun H locs hP hD hS => ?_)
  have hP : va_P G.1 zcl ((hW G uA vT uA_bo uA_st uA_se vlit vmayor vnight uoil (va_cpy vborn uborn 0 0 4) (va_cpy vstays ustays 0 0 4) (va_cpy vseen useen 0 0 10)) ++ (vW_ G vA vT vA_bo vA_st vA_se vlit vmayor vnight voil vborn vstays vseen)) H := hP
  have hD : va_D A ((hW G uA vT uA_bo uA_st uA_se vlit vmayor vnight uoil (va_cpy vborn uborn 0 0 4) (va_cpy vstays ustays 0 0 4) (va_cpy vseen useen 0 0 10)) ++ (vW_ G vA vT vA_bo vA_st vA_se vlit vmayor vnight voil vborn vstays vseen)) := hD
  refine lv_aload_n hx hb dX5_be_78 rfl (lv_at hl 0 rfl) ?_
  refine lv_aload_n hx hb dX5_be_79 rfl (lv_at hl 1 rfl) ?_
  refine va_get (D := G.1) (ci := 5) (v := .int voil) (C := RX5) (T := TX5) (N := 8) hx hb hts in_X5 hown hK.1 hP 4 rfl rfl 7 (Nat.le_of_ble_eq_true rfl) (hts _ q390) (fun _ h => h) rfl dX5_be_80 ?_
  refine va_put (D := G.1) (ci := 5) (v := .int voil) (ty := .int) (C := RX5) (T := TX5) (N := 8) hx hb hts in_X5 tyX5 tyX5_ok nmX5 hown hK.1 hP hD hS 0 rfl rfl 7 (Nat.le_of_ble_eq_true rfl) (hts _ q390) (fun _ h => h) rfl (tyX5_ok 7 (Nat.le_of_ble_eq_true rfl)) rfl rfl (Nat.le_of_ble_eq_true rfl) dX5_be_83 (fun H locs hP hD hS => ?_)
  have hP : va_P G.1 zcl ((hW G uA vT uA_bo uA_st uA_se vlit vmayor vnight voil (va_cpy vborn uborn 0 0 4) (va_cpy vstays ustays 0 0 4) (va_cpy vseen useen 0 0 10)) ++ (vW_ G vA vT vA_bo vA_st vA_se vlit vmayor vnight voil vborn vstays vseen)) H := hP
  have hD : va_D A ((hW G uA vT uA_bo uA_st uA_se vlit vmayor vnight voil (va_cpy vborn uborn 0 0 4) (va_cpy vstays ustays 0 0 4) (va_cpy vseen useen 0 0 10)) ++ (vW_ G vA vT vA_bo vA_st vA_se vlit vmayor vnight voil vborn vstays vseen)) := hD
  have e_ : hf_be uborn ustays useen vT vlit vmayor vnight voil vborn vstays vseen = (vT, vlit, vmayor, vnight, voil, va_cpy vborn uborn 0 0 4, va_cpy vstays ustays 0 0 4, va_cpy vseen useen 0 0 10) := by rw [hf_be]
  exact zr_mv hx hb hr hlocks hP hD hS dX5_be_86 rfl (by rw [e_]) trivial
def hf_begin_B35  (k_1 : Nat) (s_1 : (Nat → Int32)) : (Nat → Int32) :=
  upd s_1 k_1 0
def hf_begin_L35  (s_1 : (Nat → Int32)) : (Nat → Int32) := zf (hf_begin_B35 ) s_1 10
def hf_begin (uborn : Nat → Int32) (ustays : Nat → Int32) (useen : Nat → Int32) (tA : Nat) (nr : Nat) (tborn : Nat → Int32) (tstays : Nat → Int32) (pic : Int32) : Nat × Int32 × Int32 × Int32 × Int32 × (Nat → Int32) × (Nat → Int32) × (Nat → Int32) :=
  zlet (hf_begin_L35  useen) (fun s_1 =>
  (if nr = 0 then
    (tA, pic, (-1), 0, 0, va_cpy tborn uborn 0 0 4, va_cpy tstays ustays 0 0 4, s_1)
  else
    (tA, pic, 0, 0, 0, va_cpy tborn uborn 0 0 4, va_cpy tstays ustays 0 0 4, s_1)))
theorem hd_X5_begin : yX5_begin.cls = RX5 ∧ yX5_begin.cls ≠ "java/lang/invoke/MethodHandle" ∧ yX5_begin.cls ≠ "java/lang/invoke/VarHandle" ∧ (parseMethodDescriptor yX5_begin.desc).map (fun d => d.parameters.length) = some 2 := by decide +kernel
set_option maxHeartbeats 4000000 in
set_option maxRecDepth 100000 in
theorem mt_hf_begin (l : Launch) (G : zG) (uA : Nat) (wT : Nat) (uA_bo : Nat) (uA_st : Nat) (uA_se : Nat) (ulit : Int32) (umayor : Int32) (unight : Int32) (uoil : Int32) (uborn : Nat → Int32) (ustays : Nat → Int32) (useen : Nat → Int32) (tA : Nat) (tA_be : Nat) (tA_le : Nat) (tA_mo : Nat) (tA_rn : Nat) (tA_cn : Nat) (tA_bo : Nat) (tA_st : Nat) (twide : Int32) (trows : Int32) (thouses : Int32) (talways : Int32) (tnever : Int32) (nr : Nat) (tcitizens : Int32) (tring : Bool) (tbeside : Nat → Int32) (tleast : Nat → Int32) (tmost : Nat → Int32) (trnames : Nat → Int64) (cnames : Nat → Int64) (tborn : Nat → Int32) (tstays : Nat → Int32) (pic : Int32) (hn4 : nr ≤ 4) (sz : Nat) : Met l yX5_begin (ws_ yX5_begin cX5_begin 4 none) (zR 2 0 0) (zPm G sz [.ref uA, .ref tA, .int pic] ((hW G uA wT uA_bo uA_st uA_se ulit umayor unight uoil uborn ustays useen) ++ (tW G tA tA_be tA_le tA_mo tA_rn tA_cn tA_bo tA_st twide trows thouses talways tnever (nI nr) tcitizens tring tbeside tleast tmost trnames) ++ (tX_ G tA_cn tA_bo tA_st cnames tborn tstays))) (zQm G (True) none ((hW G uA ((hf_begin uborn ustays useen tA nr tborn tstays pic).1) uA_bo uA_st uA_se ((hf_begin uborn ustays useen tA nr tborn tstays pic).2.1) ((hf_begin uborn ustays useen tA nr tborn tstays pic).2.2.1) ((hf_begin uborn ustays useen tA nr tborn tstays pic).2.2.2.1) ((hf_begin uborn ustays useen tA nr tborn tstays pic).2.2.2.2.1) ((hf_begin uborn ustays useen tA nr tborn tstays pic).2.2.2.2.2.1) ((hf_begin uborn ustays useen tA nr tborn tstays pic).2.2.2.2.2.2.1) ((hf_begin uborn ustays useen tA nr tborn tstays pic).2.2.2.2.2.2.2)) ++ (tW G tA tA_be tA_le tA_mo tA_rn tA_cn tA_bo tA_st twide trows thouses talways tnever (nI nr) tcitizens tring tbeside tleast tmost trnames) ++ (tX_ G tA_cn tA_bo tA_st cnames tborn tstays)) (va_A ((hW G uA wT uA_bo uA_st uA_se ulit umayor unight uoil uborn ustays useen) ++ (tW G tA tA_be tA_le tA_mo tA_rn tA_cn tA_bo tA_st twide trows thouses talways tnever (nI nr) tcitizens tring tbeside tleast tmost trnames) ++ (tX_ G tA_cn tA_bo tA_st cnames tborn tstays)) sz)) 0 0 (va_A ((hW G uA wT uA_bo uA_st uA_se ulit umayor unight uoil uborn ustays useen) ++ (tW G tA tA_be tA_le tA_mo tA_rn tA_cn tA_bo tA_st twide trows thouses talways tnever (nI nr) tcitizens tring tbeside tleast tmost trnames) ++ (tX_ G tA_cn tA_bo tA_st cnames tborn tstays)) sz) := by
  refine zr_entM (by decide) (Nat.le_of_ble_eq_true rfl) ?_
  intro p e s m below meth c ⟨hx, hb, hr, hml, hown, hts, hlocks, hnm⟩ ls hl hP hK A hE hA hD hS
  have hown : s.vm.findClass RX5 = some m.cls := hown
  have hl : lv_has ls 4 [(0, .ref uA), (1, .ref tA), (2, .int pic)] := hl
  obtain ⟨H, hH⟩ : ∃ H, H = s.heap := ⟨_, rfl⟩
  obtain ⟨locs, hlo⟩ : ∃ L : List Loc, L = [] := ⟨_, rfl⟩
  rw [← hH] at hP
  have hS : va_S A s.heap H locs := by rw [hH, hlo]; exact va_S.rf
  have hgo : W p l e (zR 2 0 0) s m ([.ref uA, .ref tA, .int pic] : List Value).toArray below meth c H locs 0 0 (MQ below (zQm G (True) none ((hW G uA ((hf_begin uborn ustays useen tA nr tborn tstays pic).1) uA_bo uA_st uA_se ((hf_begin uborn ustays useen tA nr tborn tstays pic).2.1) ((hf_begin uborn ustays useen tA nr tborn tstays pic).2.2.1) ((hf_begin uborn ustays useen tA nr tborn tstays pic).2.2.2.1) ((hf_begin uborn ustays useen tA nr tborn tstays pic).2.2.2.2.1) ((hf_begin uborn ustays useen tA nr tborn tstays pic).2.2.2.2.2.1) ((hf_begin uborn ustays useen tA nr tborn tstays pic).2.2.2.2.2.2.1) ((hf_begin uborn ustays useen tA nr tborn tstays pic).2.2.2.2.2.2.2)) ++ (tW G tA tA_be tA_le tA_mo tA_rn tA_cn tA_bo tA_st twide trows thouses talways tnever (nI nr) tcitizens tring tbeside tleast tmost trnames) ++ (tX_ G tA_cn tA_bo tA_st cnames tborn tstays)) A) ([.ref uA, .ref tA, .int pic] : List Value).toArray s 0 0 A) (F0 m 0 ls []) := ?_
  · rw [hH, hlo] at hgo; exact hgo
  clear hH hlo
  refine lv_aload_n hx hb dX5_begin_0 rfl (lv_at hl 0 rfl) ?_
  refine lv_aload_n hx hb dX5_begin_1 rfl (lv_at hl 1 rfl) ?_
  refine va_put (D := G.1) (ci := 5) (v := .ref tA) (ty := (.object "WindowHill$Town")) (C := RX5) (T := TX5) (N := 8) hx hb hts in_X5 tyX5 tyX5_ok nmX5 hown hK.1 hP hD hS 0 rfl rfl 0 (Nat.le_of_ble_eq_true rfl) (hts _ q372) (fun _ h => h) rfl (tyX5_ok 0 (Nat.le_of_ble_eq_true rfl)) rfl rfl (Nat.le_of_ble_eq_true rfl) dX5_begin_2 (fun H locs hP hD hS => ?_)
  have hP : va_P G.1 zcl ((hW G uA tA uA_bo uA_st uA_se ulit umayor unight uoil uborn ustays useen) ++ (tW G tA tA_be tA_le tA_mo tA_rn tA_cn tA_bo tA_st twide trows thouses talways tnever (nI nr) tcitizens tring tbeside tleast tmost trnames) ++ (tX_ G tA_cn tA_bo tA_st cnames tborn tstays)) H := hP
  have hD : va_D A ((hW G uA tA uA_bo uA_st uA_se ulit umayor unight uoil uborn ustays useen) ++ (tW G tA tA_be tA_le tA_mo tA_rn tA_cn tA_bo tA_st twide trows thouses talways tnever (nI nr) tcitizens tring tbeside tleast tmost trnames) ++ (tX_ G tA_cn tA_bo tA_st cnames tborn tstays)) := hD
  refine lv_aload_n hx hb dX5_begin_5 rfl (lv_at hl 1 rfl) ?_
  refine va_getN (D := G.1) (ci := 6) (v := .ref tA_bo) (C := RX6) (T := TX6) (N := 15) hx hb hts in_X6 hown hK.1 hP 4 rfl rfl 13 (Nat.le_of_ble_eq_true rfl) ((hK.2.1.1 _ (List.mem_of_getElem? (i := 43) rfl)).use rfl) (fun _ h => h) rfl dX5_begin_6 ?_
  refine lv_iconst (v := 0) hx hb dX5_begin_9 (by decide) ?_
  refine lv_aload_n hx hb dX5_begin_10 rfl (lv_at hl 0 rfl) ?_
  refine va_get (D := G.1) (ci := 5) (v := .ref uA_bo) (C := RX5) (T := TX5) (N := 8) hx hb hts in_X5 hown hK.1 hP 0 rfl rfl 1 (Nat.le_of_ble_eq_true rfl) (hts _ q375) (fun _ h => h) rfl dX5_begin_11 ?_
  refine lv_iconst (v := 0) hx hb dX5_begin_14 (by decide) ?_
  refine lv_iconst (v := 4) hx hb dX5_begin_15 (by decide) ?_
  refine zr_copyi 4 (ws' := ((hW G uA tA uA_bo uA_st uA_se ulit umayor unight uoil (va_cpy tborn uborn 0 0 4) ustays useen) ++ (tW G tA tA_be tA_le tA_mo tA_rn tA_cn tA_bo tA_st twide trows thouses talways tnever (nI nr) tcitizens tring tbeside tleast tmost trnames) ++ (tX_ G tA_cn tA_bo tA_st cnames tborn tstays))) hx hb (hml.trans hl.1.symm) hown (hts _ q849) (hts _ q612) (hts _ q611) (hts _ q150) hK hP hD hS 10 1 rfl rfl rfl rfl rfl (by decide) (by decide) (by decide) rfl (Nat.le_of_ble_eq_true rfl) ⟨(Nat.le_of_ble_eq_true rfl), (Nat.le_of_ble_eq_true rfl)⟩ dX5_begin_16 (fun H locs hP hD hS => ?_)
  refine lv_aload_n hx hb dX5_begin_19 rfl (lv_at hl 1 rfl) ?_
  refine va_getN (D := G.1) (ci := 6) (v := .ref tA_st) (C := RX6) (T := TX6) (N := 15) hx hb hts in_X6 hown hK.1 hP 4 rfl rfl 14 (Nat.le_of_ble_eq_true rfl) ((hK.2.1.1 _ (List.mem_of_getElem? (i := 44) rfl)).use rfl) (fun _ h => h) rfl dX5_begin_20 ?_
  refine lv_iconst (v := 0) hx hb dX5_begin_23 (by decide) ?_
  refine lv_aload_n hx hb dX5_begin_24 rfl (lv_at hl 0 rfl) ?_
  refine va_get (D := G.1) (ci := 5) (v := .ref uA_st) (C := RX5) (T := TX5) (N := 8) hx hb hts in_X5 hown hK.1 hP 0 rfl rfl 2 (Nat.le_of_ble_eq_true rfl) (hts _ q377) (fun _ h => h) rfl dX5_begin_25 ?_
  refine lv_iconst (v := 0) hx hb dX5_begin_28 (by decide) ?_
  refine lv_iconst (v := 4) hx hb dX5_begin_29 (by decide) ?_
  refine zr_copyi 4 (ws' := ((hW G uA tA uA_bo uA_st uA_se ulit umayor unight uoil (va_cpy tborn uborn 0 0 4) (va_cpy tstays ustays 0 0 4) useen) ++ (tW G tA tA_be tA_le tA_mo tA_rn tA_cn tA_bo tA_st twide trows thouses talways tnever (nI nr) tcitizens tring tbeside tleast tmost trnames) ++ (tX_ G tA_cn tA_bo tA_st cnames tborn tstays))) hx hb (hml.trans hl.1.symm) hown (hts _ q849) (hts _ q612) (hts _ q611) (hts _ q150) hK hP hD hS 11 2 rfl rfl rfl rfl rfl (by decide) (by decide) (by decide) rfl (Nat.le_of_ble_eq_true rfl) ⟨(Nat.le_of_ble_eq_true rfl), (Nat.le_of_ble_eq_true rfl)⟩ dX5_begin_30 (fun H locs hP hD hS => ?_)
  refine lv_iconst (v := 0) hx hb dX5_begin_33 (by decide) ?_
  refine lv_istore_n (lv' := [(3, .int 0), (0, .ref uA), (1, .ref tA), (2, .int pic)]) hx hb dX5_begin_34 rfl hl (by decide) rfl (fun ls hl => ?_)
  have hlp_1 : ∀ (n k_1 : Nat) (s_1 : (Nat → Int32)), k_1 ≤ 10 → 10 < k_1 + n → zf (hf_begin_B35 ) useen k_1 = s_1 → ∀ (H : Heap) (locs : List Loc), va_P G.1 zcl ((hW G uA tA uA_bo uA_st uA_se ulit umayor unight uoil (va_cpy tborn uborn 0 0 4) (va_cpy tstays ustays 0 0 4) s_1) ++ (tW G tA tA_be tA_le tA_mo tA_rn tA_cn tA_bo tA_st twide trows thouses talways tnever (nI nr) tcitizens tring tbeside tleast tmost trnames) ++ (tX_ G tA_cn tA_bo tA_st cnames tborn tstays)) H → va_D A ((hW G uA tA uA_bo uA_st uA_se ulit umayor unight uoil (va_cpy tborn uborn 0 0 4) (va_cpy tstays ustays 0 0 4) s_1) ++ (tW G tA tA_be tA_le tA_mo tA_rn tA_cn tA_bo tA_st twide trows thouses talways tnever (nI nr) tcitizens tring tbeside tleast tmost trnames) ++ (tX_ G tA_cn tA_bo tA_st cnames tborn tstays)) → va_S A s.heap H locs → ∀ ls : Array Slot, lv_has ls 4 [(3, .int (nI k_1)), (0, .ref uA), (1, .ref tA), (2, .int pic)] → W p l e (zR 2 0 0) s m ([.ref uA, .ref tA, .int pic] : List Value).toArray below meth c H locs 0 0 (MQ below (zQm G (True) none ((hW G uA ((hf_begin uborn ustays useen tA nr tborn tstays pic).1) uA_bo uA_st uA_se ((hf_begin uborn ustays useen tA nr tborn tstays pic).2.1) ((hf_begin uborn ustays useen tA nr tborn tstays pic).2.2.1) ((hf_begin uborn ustays useen tA nr tborn tstays pic).2.2.2.1) ((hf_begin uborn ustays useen tA nr tborn tstays pic).2.2.2.2.1) ((hf_begin uborn ustays useen tA nr tborn tstays pic).2.2.2.2.2.1) ((hf_begin uborn ustays useen tA nr tborn tstays pic).2.2.2.2.2.2.1) ((hf_begin uborn ustays useen tA nr tborn tstays pic).2.2.2.2.2.2.2)) ++ (tW G tA tA_be tA_le tA_mo tA_rn tA_cn tA_bo tA_st twide trows thouses talways tnever (nI nr) tcitizens tring tbeside tleast tmost trnames) ++ (tX_ G tA_cn tA_bo tA_st cnames tborn tstays)) A) ([.ref uA, .ref tA, .int pic] : List Value).toArray s 0 0 A) (F0 m 35 ls []) := by
    intro n
    induction n with
    | zero => intro k_1 s_1 h1 h2; exact absurd h2 (by omega)
    | succ n ih_1 =>
      intro k_1 s_1 hk_1 hn_1 hst_1 H locs hP hD hS ls hl
      refine lv_iload_n hx hb dX5_begin_35 rfl (lv_at hl 0 rfl) ?_
      refine lv_aload_n hx hb dX5_begin_36 rfl (lv_at hl 1 rfl) ?_
      refine va_get (D := G.1) (ci := 5) (v := .ref uA_se) (C := RX5) (T := TX5) (N := 8) hx hb hts in_X5 hown hK.1 hP 0 rfl rfl 3 (Nat.le_of_ble_eq_true rfl) (hts _ q379) (fun _ h => h) rfl dX5_begin_37 ?_
      refine va_alen hx hb hK.1 hP 3 0 rfl rfl (v := 10) rfl dX5_begin_40 ?_
      refine zr_ge k_1 10 (by omega) (by decide) (tgt := 57) hx hb dX5_begin_41 (by decide) (fun c_1 => ?_) (fun c_1 => ?_)
      · have ek_1 : k_1 = 10 := Nat.le_antisymm hk_1 c_1
        have hs_1 : hf_begin_L35  useen = s_1 := by rw [ek_1] at hst_1; exact hst_1
        have hl := lv_sub hl (l' := _) [1, 2, 3] rfl
        refine lv_aload_n hx hb dX5_begin_57 rfl (lv_at hl 0 rfl) ?_
        refine lv_iload_n hx hb dX5_begin_58 rfl (lv_at hl 2 rfl) ?_
        refine va_put (D := G.1) (ci := 5) (v := .int pic) (ty := .int) (C := RX5) (T := TX5) (N := 8) hx hb hts in_X5 tyX5 tyX5_ok nmX5 hown hK.1 hP hD hS 0 rfl rfl 4 (Nat.le_of_ble_eq_true rfl) (hts _ q382) (fun _ h => h) rfl (tyX5_ok 4 (Nat.le_of_ble_eq_true rfl)) rfl rfl (Nat.le_of_ble_eq_true rfl) dX5_begin_59 (fun H locs hP hD hS => ?_)
        have hP : va_P G.1 zcl ((hW G uA tA uA_bo uA_st uA_se pic umayor unight uoil (va_cpy tborn uborn 0 0 4) (va_cpy tstays ustays 0 0 4) s_1) ++ (tW G tA tA_be tA_le tA_mo tA_rn tA_cn tA_bo tA_st twide trows thouses talways tnever (nI nr) tcitizens tring tbeside tleast tmost trnames) ++ (tX_ G tA_cn tA_bo tA_st cnames tborn tstays)) H := hP
        have hD : va_D A ((hW G uA tA uA_bo uA_st uA_se pic umayor unight uoil (va_cpy tborn uborn 0 0 4) (va_cpy tstays ustays 0 0 4) s_1) ++ (tW G tA tA_be tA_le tA_mo tA_rn tA_cn tA_bo tA_st twide trows thouses talways tnever (nI nr) tcitizens tring tbeside tleast tmost trnames) ++ (tX_ G tA_cn tA_bo tA_st cnames tborn tstays)) := hD
        refine lv_aload_n hx hb dX5_begin_62 rfl (lv_at hl 0 rfl) ?_
        refine lv_aload_n hx hb dX5_begin_63 rfl (lv_at hl 1 rfl) ?_
        refine va_getN (D := G.1) (ci := 6) (v := .int (nI nr)) (C := RX6) (T := TX6) (N := 15) hx hb hts in_X6 hown hK.1 hP 4 rfl rfl 5 (Nat.le_of_ble_eq_true rfl) ((hK.2.1.1 _ (List.mem_of_getElem? (i := 45) rfl)).use rfl) (fun _ h => h) rfl dX5_begin_64 ?_
        refine zr_ifleN nr (by omega) (tgt := 74) hx hb dX5_begin_67 (by decide) (fun c_2 => ?_) (fun c_2 => ?_)
        · refine lv_iconst (v := (-1)) hx hb dX5_begin_74 (by decide) ?_
          refine va_put (D := G.1) (ci := 5) (v := .int (-1)) (ty := .int) (C := RX5) (T := TX5) (N := 8) hx hb hts in_X5 tyX5 tyX5_ok nmX5 hown hK.1 hP hD hS 0 rfl rfl 5 (Nat.le_of_ble_eq_true rfl) (hts _ q385) (fun _ h => h) rfl (tyX5_ok 5 (Nat.le_of_ble_eq_true rfl)) rfl rfl (Nat.le_of_ble_eq_true rfl) dX5_begin_75 (fun H locs hP hD hS => ?_)
          have hP : va_P G.1 zcl ((hW G uA tA uA_bo uA_st uA_se pic (-1) unight uoil (va_cpy tborn uborn 0 0 4) (va_cpy tstays ustays 0 0 4) s_1) ++ (tW G tA tA_be tA_le tA_mo tA_rn tA_cn tA_bo tA_st twide trows thouses talways tnever (nI nr) tcitizens tring tbeside tleast tmost trnames) ++ (tX_ G tA_cn tA_bo tA_st cnames tborn tstays)) H := hP
          have hD : va_D A ((hW G uA tA uA_bo uA_st uA_se pic (-1) unight uoil (va_cpy tborn uborn 0 0 4) (va_cpy tstays ustays 0 0 4) s_1) ++ (tW G tA tA_be tA_le tA_mo tA_rn tA_cn tA_bo tA_st twide trows thouses talways tnever (nI nr) tcitizens tring tbeside tleast tmost trnames) ++ (tX_ G tA_cn tA_bo tA_st cnames tborn tstays)) := hD
          refine lv_aload_n hx hb dX5_begin_78 rfl (lv_at hl 0 rfl) ?_
          refine lv_iconst (v := 0) hx hb dX5_begin_79 (by decide) ?_
          refine va_put (D := G.1) (ci := 5) (v := .int 0) (ty := .int) (C := RX5) (T := TX5) (N := 8) hx hb hts in_X5 tyX5 tyX5_ok nmX5 hown hK.1 hP hD hS 0 rfl rfl 6 (Nat.le_of_ble_eq_true rfl) (hts _ q388) (fun _ h => h) rfl (tyX5_ok 6 (Nat.le_of_ble_eq_true rfl)) rfl rfl (Nat.le_of_ble_eq_true rfl) dX5_begin_80 (fun H locs hP hD hS => ?_)
          have hP : va_P G.1 zcl ((hW G uA tA uA_bo uA_st uA_se pic (-1) 0 uoil (va_cpy tborn uborn 0 0 4) (va_cpy tstays ustays 0 0 4) s_1) ++ (tW G tA tA_be tA_le tA_mo tA_rn tA_cn tA_bo tA_st twide trows thouses talways tnever (nI nr) tcitizens tring tbeside tleast tmost trnames) ++ (tX_ G tA_cn tA_bo tA_st cnames tborn tstays)) H := hP
          have hD : va_D A ((hW G uA tA uA_bo uA_st uA_se pic (-1) 0 uoil (va_cpy tborn uborn 0 0 4) (va_cpy tstays ustays 0 0 4) s_1) ++ (tW G tA tA_be tA_le tA_mo tA_rn tA_cn tA_bo tA_st twide trows thouses talways tnever (nI nr) tcitizens tring tbeside tleast tmost trnames) ++ (tX_ G tA_cn tA_bo tA_st cnames tborn tstays)) := hD
          refine lv_aload_n hx hb dX5_begin_83 rfl (lv_at hl 0 rfl) ?_
          refine lv_iconst (v := 0) hx hb dX5_begin_84 (by decide) ?_
          refine va_put (D := G.1) (ci := 5) (v := .int 0) (ty := .int) (C := RX5) (T := TX5) (N := 8) hx hb hts in_X5 tyX5 tyX5_ok nmX5 hown hK.1 hP hD hS 0 rfl rfl 7 (Nat.le_of_ble_eq_true rfl) (hts _ q390) (fun _ h => h) rfl (tyX5_ok 7 (Nat.le_of_ble_eq_true rfl)) rfl rfl (Nat.le_of_ble_eq_true rfl) dX5_begin_85 (fun H locs hP hD hS => ?_)
          have hP : va_P G.1 zcl ((hW G uA tA uA_bo uA_st uA_se pic (-1) 0 0 (va_cpy tborn uborn 0 0 4) (va_cpy tstays ustays 0 0 4) s_1) ++ (tW G tA tA_be tA_le tA_mo tA_rn tA_cn tA_bo tA_st twide trows thouses talways tnever (nI nr) tcitizens tring tbeside tleast tmost trnames) ++ (tX_ G tA_cn tA_bo tA_st cnames tborn tstays)) H := hP
          have hD : va_D A ((hW G uA tA uA_bo uA_st uA_se pic (-1) 0 0 (va_cpy tborn uborn 0 0 4) (va_cpy tstays ustays 0 0 4) s_1) ++ (tW G tA tA_be tA_le tA_mo tA_rn tA_cn tA_bo tA_st twide trows thouses talways tnever (nI nr) tcitizens tring tbeside tleast tmost trnames) ++ (tX_ G tA_cn tA_bo tA_st cnames tborn tstays)) := hD
          have e_ : hf_begin uborn ustays useen tA nr tborn tstays pic = (tA, pic, (-1), 0, 0, va_cpy tborn uborn 0 0 4, va_cpy tstays ustays 0 0 4, s_1) := by rw [hf_begin, zlet_eq hs_1, if_pos c_2]
          exact zr_mv hx hb hr hlocks hP hD hS dX5_begin_88 rfl (by rw [e_]) trivial
        · refine lv_iconst (v := 0) hx hb dX5_begin_70 (by decide) ?_
          refine lv_goto (tgt := 75) hx hb dX5_begin_71 (by decide) ?_
          refine va_put (D := G.1) (ci := 5) (v := .int 0) (ty := .int) (C := RX5) (T := TX5) (N := 8) hx hb hts in_X5 tyX5 tyX5_ok nmX5 hown hK.1 hP hD hS 0 rfl rfl 5 (Nat.le_of_ble_eq_true rfl) (hts _ q385) (fun _ h => h) rfl (tyX5_ok 5 (Nat.le_of_ble_eq_true rfl)) rfl rfl (Nat.le_of_ble_eq_true rfl) dX5_begin_75 (fun H locs hP hD hS => ?_)
          have hP : va_P G.1 zcl ((hW G uA tA uA_bo uA_st uA_se pic 0 unight uoil (va_cpy tborn uborn 0 0 4) (va_cpy tstays ustays 0 0 4) s_1) ++ (tW G tA tA_be tA_le tA_mo tA_rn tA_cn tA_bo tA_st twide trows thouses talways tnever (nI nr) tcitizens tring tbeside tleast tmost trnames) ++ (tX_ G tA_cn tA_bo tA_st cnames tborn tstays)) H := hP
          have hD : va_D A ((hW G uA tA uA_bo uA_st uA_se pic 0 unight uoil (va_cpy tborn uborn 0 0 4) (va_cpy tstays ustays 0 0 4) s_1) ++ (tW G tA tA_be tA_le tA_mo tA_rn tA_cn tA_bo tA_st twide trows thouses talways tnever (nI nr) tcitizens tring tbeside tleast tmost trnames) ++ (tX_ G tA_cn tA_bo tA_st cnames tborn tstays)) := hD
          refine lv_aload_n hx hb dX5_begin_78 rfl (lv_at hl 0 rfl) ?_
          refine lv_iconst (v := 0) hx hb dX5_begin_79 (by decide) ?_
          refine va_put (D := G.1) (ci := 5) (v := .int 0) (ty := .int) (C := RX5) (T := TX5) (N := 8) hx hb hts in_X5 tyX5 tyX5_ok nmX5 hown hK.1 hP hD hS 0 rfl rfl 6 (Nat.le_of_ble_eq_true rfl) (hts _ q388) (fun _ h => h) rfl (tyX5_ok 6 (Nat.le_of_ble_eq_true rfl)) rfl rfl (Nat.le_of_ble_eq_true rfl) dX5_begin_80 (fun H locs hP hD hS => ?_)
          have hP : va_P G.1 zcl ((hW G uA tA uA_bo uA_st uA_se pic 0 0 uoil (va_cpy tborn uborn 0 0 4) (va_cpy tstays ustays 0 0 4) s_1) ++ (tW G tA tA_be tA_le tA_mo tA_rn tA_cn tA_bo tA_st twide trows thouses talways tnever (nI nr) tcitizens tring tbeside tleast tmost trnames) ++ (tX_ G tA_cn tA_bo tA_st cnames tborn tstays)) H := hP
          have hD : va_D A ((hW G uA tA uA_bo uA_st uA_se pic 0 0 uoil (va_cpy tborn uborn 0 0 4) (va_cpy tstays ustays 0 0 4) s_1) ++ (tW G tA tA_be tA_le tA_mo tA_rn tA_cn tA_bo tA_st twide trows thouses talways tnever (nI nr) tcitizens tring tbeside tleast tmost trnames) ++ (tX_ G tA_cn tA_bo tA_st cnames tborn tstays)) := hD
          refine lv_aload_n hx hb dX5_begin_83 rfl (lv_at hl 0 rfl) ?_
          refine lv_iconst (v := 0) hx hb dX5_begin_84 (by decide) ?_
          refine va_put (D := G.1) (ci := 5) (v := .int 0) (ty := .int) (C := RX5) (T := TX5) (N := 8) hx hb hts in_X5 tyX5 tyX5_ok nmX5 hown hK.1 hP hD hS 0 rfl rfl 7 (Nat.le_of_ble_eq_true rfl) (hts _ q390) (fun _ h => h) rfl (tyX5_ok 7 (Nat.le_of_ble_eq_true rfl)) rfl rfl (Nat.le_of_ble_eq_true rfl) dX5_begin_85 (fun H locs hP hD hS => ?_)
          have hP : va_P G.1 zcl ((hW G uA tA uA_bo uA_st uA_se pic 0 0 0 (va_cpy tborn uborn 0 0 4) (va_cpy tstays ustays 0 0 4) s_1) ++ (tW G tA tA_be tA_le tA_mo tA_rn tA_cn tA_bo tA_st twide trows thouses talways tnever (nI nr) tcitizens tring tbeside tleast tmost trnames) ++ (tX_ G tA_cn tA_bo tA_st cnames tborn tstays)) H := hP
          have hD : va_D A ((hW G uA tA uA_bo uA_st uA_se pic 0 0 0 (va_cpy tborn uborn 0 0 4) (va_cpy tstays ustays 0 0 4) s_1) ++ (tW G tA tA_be tA_le tA_mo tA_rn tA_cn tA_bo tA_st twide trows thouses talways tnever (nI nr) tcitizens tring tbeside tleast tmost trnames) ++ (tX_ G tA_cn tA_bo tA_st cnames tborn tstays)) := hD
          have e_ : hf_begin uborn ustays useen tA nr tborn tstays pic = (tA, pic, 0, 0, 0, va_cpy tborn uborn 0 0 4, va_cpy tstays ustays 0 0 4, s_1) := by rw [hf_begin, zlet_eq hs_1, if_neg c_2]
          exact zr_mv hx hb hr hlocks hP hD hS dX5_begin_88 rfl (by rw [e_]) trivial
      · have hlt_1 : k_1 < 10 := Nat.lt_of_not_le c_1
        refine lv_aload_n hx hb dX5_begin_44 rfl (lv_at hl 1 rfl) ?_
        refine va_get (D := G.1) (ci := 5) (v := .ref uA_se) (C := RX5) (T := TX5) (N := 8) hx hb hts in_X5 hown hK.1 hP 0 rfl rfl 3 (Nat.le_of_ble_eq_true rfl) (hts _ q379) (fun _ h => h) rfl dX5_begin_45 ?_
        refine lv_iload_n hx hb dX5_begin_48 rfl (lv_at hl 0 rfl) ?_
        refine lv_iconst (v := 0) hx hb dX5_begin_49 (by decide) ?_
        refine zr_iast k_1 (ws' := ((hW G uA tA uA_bo uA_st uA_se ulit umayor unight uoil (va_cpy tborn uborn 0 0 4) (va_cpy tstays ustays 0 0 4) (upd s_1 k_1 0)) ++ (tW G tA tA_be tA_le tA_mo tA_rn tA_cn tA_bo tA_st twide trows thouses talways tnever (nI nr) tcitizens tring tbeside tleast tmost trnames) ++ (tX_ G tA_cn tA_bo tA_st cnames tborn tstays))) hx hb hK hP hD hS 3 rfl rfl (Nat.le_of_ble_eq_true rfl) rfl (by omega) rfl dX5_begin_50 (fun H locs hP hD hS => ?_)
        refine lv_iinc (v := nI (k_1 + 1)) (lv' := [(3, .int (nI (k_1 + 1))), (0, .ref uA), (1, .ref tA), (2, .int pic)]) hx hb dX5_begin_51 hl (k := 0) rfl (nI_add k_1 1) (by decide) rfl (fun ls hl => ?_)
        refine lv_goto (tgt := 35) hx hb dX5_begin_54 (by decide) ?_
        exact ih_1 (k_1 + 1) (upd s_1 k_1 0) hlt_1 (by omega) (zf_s hst_1 (by rw [hf_begin_B35])) H locs hP hD hS ls (lv_sub hl [0, 1, 2, 3] rfl)
  exact hlp_1 (10 + 1) 0 useen (Nat.zero_le _) (by omega) rfl H locs hP hD hS ls (lv_sub hl [0, 1, 2, 3] rfl)
