def rw0_ (G : zG) (ra : Nat) (nn : Nat) (rf : Nat → Int32) : va_W := [(ra, .inl (G.2 2, nn, .inl rf))]
theorem hd_X0_sortOf : True ∧ yX0_sortOf.cls ≠ "java/lang/invoke/MethodHandle" ∧ yX0_sortOf.cls ≠ "java/lang/invoke/VarHandle" ∧ (parseMethodDescriptor yX0_sortOf.desc).map (fun d => d.parameters.length) = some 1 := by decide +kernel
set_option maxHeartbeats 4000000 in
set_option maxRecDepth 100000 in
theorem mt_xk_sort0 (l : Launch) (G : zG) (ra : Nat) (nn : Nat) (rf : Nat → Int32) : Met l yX0_sortOf (ws_ yX0_sortOf cX0_sortOf 1 (some .int)) (zR 1 0 0) (zPo G [.ref ra] (rw0_ G ra nn rf)) (k2_QcV (.int (0 : Int32))) 0 0 (fun _ => False) := by
  refine zr_entO (by decide) (Nat.le_of_ble_eq_true rfl) ?_
  intro p e s m below meth c ⟨hx, hb, hr, hml, hown, hts, hlocks, hnm⟩ ls hl hP hK hE
  have hown : s.vm.findClass RX0 = some m.cls := hown
  have hl : lv_has ls 1 [(0, .ref ra)] := hl
  refine lv_aload_n hx hb dX0_sortOf_0 rfl (lv_at hl 0 rfl) ?_
  refine va_instE hx hb hown (hts _ q586) (zr_arr hK hP 0 2 .byte rfl rfl rfl rfl) dX0_sortOf_1 ?_
  refine lv_if_eq (tgt := 11) hx hb dX0_sortOf_4 (by decide) (fun z => absurd z (by decide)) (fun _ => ?_)
  refine lv_iconst (v := 0) hx hb dX0_sortOf_7 (by decide) ?_
  refine lv_goto (tgt := 34) hx hb dX0_sortOf_8 (by decide) ?_
  exact zr_oi hx hb hr hlocks dX0_sortOf_34 rfl
theorem hd_X0_sizeOf : True ∧ yX0_sizeOf.cls ≠ "java/lang/invoke/MethodHandle" ∧ yX0_sizeOf.cls ≠ "java/lang/invoke/VarHandle" ∧ (parseMethodDescriptor yX0_sizeOf.desc).map (fun d => d.parameters.length) = some 1 := by decide +kernel
set_option maxHeartbeats 4000000 in
set_option maxRecDepth 100000 in
theorem mt_xk_size0 (l : Launch) (G : zG) (ra : Nat) (nn : Nat) (rf : Nat → Int32) (hnn : nn ≤ 60) : Met l yX0_sizeOf (ws_ yX0_sizeOf cX0_sizeOf 2 (some .int)) (zR 1 0 0) (zPo G [.ref ra] (rw0_ G ra nn rf)) (k2_QcV (.int (nI nn))) 0 0 (fun _ => False) := by
  refine zr_entO (by decide) (Nat.le_of_ble_eq_true rfl) ?_
  intro p e s m below meth c ⟨hx, hb, hr, hml, hown, hts, hlocks, hnm⟩ ls hl hP hK hE
  have hown : s.vm.findClass RX0 = some m.cls := hown
  have hl : lv_has ls 2 [(0, .ref ra)] := hl
  refine lv_aload_n hx hb dX0_sizeOf_0 rfl (lv_at hl 0 rfl) ?_
  refine va_instE hx hb hown (hts _ q586) (zr_arr hK hP 0 2 .byte rfl rfl rfl rfl) dX0_sizeOf_1 ?_
  refine lv_if_eq (tgt := 15) hx hb dX0_sizeOf_4 (by decide) (fun z => absurd z (by decide)) (fun _ => ?_)
  refine lv_aload_n hx hb dX0_sizeOf_7 rfl (lv_at hl 0 rfl) ?_
  refine va_castE hx hb hown (hts _ q586) (zr_arr hK hP 0 2 .byte rfl rfl rfl rfl) dX0_sizeOf_8 ?_
  refine lv_astore_n (lv' := [(1, .ref ra), (0, .ref ra)]) hx hb dX0_sizeOf_11 rfl hl (by decide) rfl (fun ls hl => ?_)
  refine lv_aload_n hx hb dX0_sizeOf_12 rfl (lv_at hl 0 rfl) ?_
  refine va_alen hx hb hK.1 hP 0 2 rfl rfl (v := nI nn) rfl dX0_sizeOf_13 ?_
  exact zr_oi hx hb hr hlocks dX0_sizeOf_14 rfl
theorem hd_X0_number : True ∧ yX0_number.cls ≠ "java/lang/invoke/MethodHandle" ∧ yX0_number.cls ≠ "java/lang/invoke/VarHandle" ∧ (parseMethodDescriptor yX0_number.desc).map (fun d => d.parameters.length) = some 2 := by decide +kernel
set_option maxHeartbeats 4000000 in
set_option maxRecDepth 100000 in
theorem mt_xk_num0 (l : Launch) (G : zG) (ra : Nat) (nn : Nat) (rf : Nat → Int32) (k : Nat) (hnn : nn ≤ 60) (hk : k < nn) : Met l yX0_number (ws_ yX0_number cX0_number 3 (some .long)) (zR 1 0 0) (zPo G [.ref ra, .int (nI k)] (rw0_ G ra nn rf)) (k2_QcV (.long ((rf k).toInt64))) 0 0 (fun _ => False) := by
  refine zr_entO (by decide) (Nat.le_of_ble_eq_true rfl) ?_
  intro p e s m below meth c ⟨hx, hb, hr, hml, hown, hts, hlocks, hnm⟩ ls hl hP hK hE
  have hown : s.vm.findClass RX0 = some m.cls := hown
  have hl : lv_has ls 3 [(0, .ref ra), (1, .int (nI k))] := hl
  refine lv_aload_n hx hb dX0_number_0 rfl (lv_at hl 0 rfl) ?_
  refine va_instE hx hb hown (hts _ q586) (zr_arr hK hP 0 2 .byte rfl rfl rfl rfl) dX0_number_1 ?_
  refine lv_if_eq (tgt := 17) hx hb dX0_number_4 (by decide) (fun z => absurd z (by decide)) (fun _ => ?_)
  refine lv_aload_n hx hb dX0_number_7 rfl (lv_at hl 0 rfl) ?_
  refine va_castE hx hb hown (hts _ q586) (zr_arr hK hP 0 2 .byte rfl rfl rfl rfl) dX0_number_8 ?_
  refine lv_astore_n (lv' := [(2, .ref ra), (0, .ref ra), (1, .int (nI k))]) hx hb dX0_number_11 rfl hl (by decide) rfl (fun ls hl => ?_)
  refine lv_aload_n hx hb dX0_number_12 rfl (lv_at hl 0 rfl) ?_
  refine lv_iload_n hx hb dX0_number_13 rfl (lv_at hl 2 rfl) ?_
  refine zr_bald k (v := rf k) hx hb hK hP 0 rfl rfl (by omega) rfl (by omega) rfl dX0_number_14 ?_
  refine lv_i2l hx hb dX0_number_15 rfl ?_
  exact zr_ol hx hb hr hlocks dX0_number_16 rfl
def xk_put0 (rf : Nat → Int32) (k : Nat) (x : Int64) : (Nat → Int32) :=
  (upd rf k (vp_nar .byte x.toInt32.toInt8.toInt32))
theorem hd_X0_put : True ∧ yX0_put.cls ≠ "java/lang/invoke/MethodHandle" ∧ yX0_put.cls ≠ "java/lang/invoke/VarHandle" ∧ (parseMethodDescriptor yX0_put.desc).map (fun d => d.parameters.length) = some 3 := by decide +kernel
set_option maxHeartbeats 4000000 in
set_option maxRecDepth 100000 in
theorem mt_xk_put0 (l : Launch) (G : zG) (ra : Nat) (nn : Nat) (rf : Nat → Int32) (k : Nat) (x : Int64) (hnn : nn ≤ 60) (hk : k < nn) (sz : Nat) : Met l yX0_put (ws_ yX0_put cX0_put 7 none) (zR 1 0 0) (zPm G sz [.ref ra, .int (nI k), .long x] (rw0_ G ra nn rf)) (zQm G (True) none (rw0_ G ra nn (xk_put0 rf k x)) (va_A (rw0_ G ra nn rf) sz)) 0 0 (va_A (rw0_ G ra nn rf) sz) := by
  refine zr_entM (by decide) (Nat.le_of_ble_eq_true rfl) ?_
  intro p e s m below meth c ⟨hx, hb, hr, hml, hown, hts, hlocks, hnm⟩ ls hl hP hK A hE hA hD hS
  have hown : s.vm.findClass RX0 = some m.cls := hown
  have hl : lv_has ls 7 [(0, .ref ra), (1, .int (nI k)), (2, .long x)] := hl
  obtain ⟨H, hH⟩ : ∃ H, H = s.heap := ⟨_, rfl⟩
  obtain ⟨locs, hlo⟩ : ∃ L : List Loc, L = [] := ⟨_, rfl⟩
  rw [← hH] at hP
  have hS : va_S A s.heap H locs := by rw [hH, hlo]; exact va_S.rf
  have hgo : W p l e (zR 1 0 0) s m ([.ref ra, .int (nI k), .long x] : List Value).toArray below meth c H locs 0 0 (MQ below (zQm G (True) none (rw0_ G ra nn (xk_put0 rf k x)) A) ([.ref ra, .int (nI k), .long x] : List Value).toArray s 0 0 A) (F0 m 0 ls []) := ?_
  · rw [hH, hlo] at hgo; exact hgo
  clear hH hlo
  refine lv_aload_n hx hb dX0_put_0 rfl (lv_at hl 0 rfl) ?_
  refine va_instE hx hb hown (hts _ q586) (zr_arr hK hP 0 2 .byte rfl rfl rfl rfl) dX0_put_1 ?_
  refine lv_if_eq (tgt := 23) hx hb dX0_put_4 (by decide) (fun z => absurd z (by decide)) (fun _ => ?_)
  refine lv_aload_n hx hb dX0_put_7 rfl (lv_at hl 0 rfl) ?_
  refine va_castE hx hb hown (hts _ q586) (zr_arr hK hP 0 2 .byte rfl rfl rfl rfl) dX0_put_8 ?_
  refine lv_astore (lv' := [(4, .ref ra), (0, .ref ra), (1, .int (nI k)), (2, .long x)]) hx hb dX0_put_11 hl (by decide) rfl (fun ls hl => ?_)
  refine lv_aload hx hb dX0_put_13 (lv_at hl 0 rfl) ?_
  refine lv_iload_n hx hb dX0_put_15 rfl (lv_at hl 2 rfl) ?_
  refine lv_lload_n hx hb dX0_put_16 rfl (lv_at hl 3 rfl) ?_
  refine lv_l2i hx hb dX0_put_17 rfl ?_
  refine lv_i2b hx hb dX0_put_18 rfl ?_
  refine zr_bast k (ws' := (rw0_ G ra nn (upd rf k (vp_nar .byte x.toInt32.toInt8.toInt32)))) hx hb hK hP hD hS 0 rfl rfl (by omega) rfl (by omega) rfl dX0_put_19 (fun H locs hP hD hS => ?_)
  refine lv_goto (tgt := 75) hx hb dX0_put_20 (by decide) ?_
  have e_ : xk_put0 rf k x = upd rf k (vp_nar .byte x.toInt32.toInt8.toInt32) := by rw [xk_put0]
  exact zr_mv hx hb hr hlocks hP hD hS dX0_put_75 rfl (by rw [e_]) trivial
set_option maxHeartbeats 4000000 in
set_option maxRecDepth 100000 in
theorem mt_xk_numO0 (l : Launch) (hlt : l.stackTraces = false) (G : zG) (ra : Nat) (nn : Nat) (rf : Nat → Int32) (i : Int32) (hnn : nn ≤ 60) (ho : ¬ vp_in i nn) (sz : Nat) : vx_Met l yX0_number (ws_ yX0_number cX0_number 3 (some .long)) (zR 165 3 222) (zPm G sz [.ref ra, .int i] (rw0_ G ra nn rf)) zNoQ (zXt G "java/lang/ArrayIndexOutOfBoundsException" (rw0_ G ra nn rf) (va_A (rw0_ G ra nn rf) sz)) 3 222 (va_A (rw0_ G ra nn rf) sz) := by
  refine zr_entT (by decide) (Nat.le_of_ble_eq_true rfl) ?_
  intro p e s m below meth c ⟨hx, hb, hr, hml, hown, hts, hlocks, hnm⟩ hout ls hl hP hK A hE hA hD hS
  have hown : s.vm.findClass RX0 = some m.cls := hown
  have hl : lv_has ls 3 [(0, .ref ra), (1, .int i)] := hl
  obtain ⟨H, hH⟩ : ∃ H, H = s.heap := ⟨_, rfl⟩
  obtain ⟨locs, hlo⟩ : ∃ L : List Loc, L = [] := ⟨_, rfl⟩
  rw [← hH] at hP
  have hS : va_S A s.heap H locs := by rw [hH, hlo]; exact va_S.rf
  have hgo : W p l e (zR 165 3 222) s m ([.ref ra, .int i] : List Value).toArray below meth c H locs 0 0 (vx_MQ below zNoQ (zXt G "java/lang/ArrayIndexOutOfBoundsException" (rw0_ G ra nn rf) A) ([.ref ra, .int i] : List Value).toArray s 3 222 A) (F0 m 0 ls []) := ?_
  · rw [hH, hlo] at hgo; exact hgo
  clear hH hlo
  refine lv_aload_n hx hb dX0_number_0 rfl (lv_at hl 0 rfl) ?_
  refine va_instE hx hb hown (hts _ q586) (zr_arr hK hP 0 2 .byte rfl rfl rfl rfl) dX0_number_1 ?_
  refine lv_if_eq (tgt := 17) hx hb dX0_number_4 (by decide) (fun z => absurd z (by decide)) (fun _ => ?_)
  refine lv_aload_n hx hb dX0_number_7 rfl (lv_at hl 0 rfl) ?_
  refine va_castE hx hb hown (hts _ q586) (zr_arr hK hP 0 2 .byte rfl rfl rfl rfl) dX0_number_8 ?_
  refine lv_astore_n (lv' := [(2, .ref ra), (0, .ref ra), (1, .int i)]) hx hb dX0_number_11 rfl hl (by decide) rfl (fun ls hl => ?_)
  refine lv_aload_n hx hb dX0_number_12 rfl (lv_at hl 0 rfl) ?_
  refine lv_iload_n hx hb dX0_number_13 rfl (lv_at hl 2 rfl) ?_
  refine vx_baldZ hx hb hK.1 hP 0 2 rfl rfl ho dX0_number_14 (fun tx htx => ?_)
  refine zr_noteA (ws := (rw0_ G ra nn rf)) hx hlt hts hK hE hP hS (hl.1.trans hml.symm) (by omega) htx (Nat.le_of_ble_eq_true rfl) (Nat.le_of_ble_eq_true rfl) (Nat.le_of_ble_eq_true rfl) (Nat.le_of_ble_eq_true rfl) hlocks (fun q9 ce H hce hcv hcl hP hS _ => ?_)
  exact zr_tend hout hlocks hce hcv hcl hP hD hS rfl
set_option maxHeartbeats 4000000 in
set_option maxRecDepth 100000 in
theorem mt_xk_putO0 (l : Launch) (hlt : l.stackTraces = false) (G : zG) (ra : Nat) (nn : Nat) (rf : Nat → Int32) (i : Int32) (x : Int64) (hnn : nn ≤ 60) (ho : ¬ vp_in i nn) (sz : Nat) : vx_Met l yX0_put (ws_ yX0_put cX0_put 7 none) (zR 165 3 222) (zPm G sz [.ref ra, .int i, .long x] (rw0_ G ra nn rf)) zNoQ (zXt G "java/lang/ArrayIndexOutOfBoundsException" (rw0_ G ra nn rf) (va_A (rw0_ G ra nn rf) sz)) 3 222 (va_A (rw0_ G ra nn rf) sz) := by
  refine zr_entT (by decide) (Nat.le_of_ble_eq_true rfl) ?_
  intro p e s m below meth c ⟨hx, hb, hr, hml, hown, hts, hlocks, hnm⟩ hout ls hl hP hK A hE hA hD hS
  have hown : s.vm.findClass RX0 = some m.cls := hown
  have hl : lv_has ls 7 [(0, .ref ra), (1, .int i), (2, .long x)] := hl
  obtain ⟨H, hH⟩ : ∃ H, H = s.heap := ⟨_, rfl⟩
  obtain ⟨locs, hlo⟩ : ∃ L : List Loc, L = [] := ⟨_, rfl⟩
  rw [← hH] at hP
  have hS : va_S A s.heap H locs := by rw [hH, hlo]; exact va_S.rf
  have hgo : W p l e (zR 165 3 222) s m ([.ref ra, .int i, .long x] : List Value).toArray below meth c H locs 0 0 (vx_MQ below zNoQ (zXt G "java/lang/ArrayIndexOutOfBoundsException" (rw0_ G ra nn rf) A) ([.ref ra, .int i, .long x] : List Value).toArray s 3 222 A) (F0 m 0 ls []) := ?_
  · rw [hH, hlo] at hgo; exact hgo
  clear hH hlo
  refine lv_aload_n hx hb dX0_put_0 rfl (lv_at hl 0 rfl) ?_
  refine va_instE hx hb hown (hts _ q586) (zr_arr hK hP 0 2 .byte rfl rfl rfl rfl) dX0_put_1 ?_
  refine lv_if_eq (tgt := 23) hx hb dX0_put_4 (by decide) (fun z => absurd z (by decide)) (fun _ => ?_)
  refine lv_aload_n hx hb dX0_put_7 rfl (lv_at hl 0 rfl) ?_
  refine va_castE hx hb hown (hts _ q586) (zr_arr hK hP 0 2 .byte rfl rfl rfl rfl) dX0_put_8 ?_
  refine lv_astore (lv' := [(4, .ref ra), (0, .ref ra), (1, .int i), (2, .long x)]) hx hb dX0_put_11 hl (by decide) rfl (fun ls hl => ?_)
  refine lv_aload hx hb dX0_put_13 (lv_at hl 0 rfl) ?_
  refine lv_iload_n hx hb dX0_put_15 rfl (lv_at hl 2 rfl) ?_
  refine lv_lload_n hx hb dX0_put_16 rfl (lv_at hl 3 rfl) ?_
  refine lv_l2i hx hb dX0_put_17 rfl ?_
  refine lv_i2b hx hb dX0_put_18 rfl ?_
  refine vx_bastZ hx hb hK.1 hP 0 2 rfl rfl ho dX0_put_19 (fun tx htx => ?_)
  refine zr_noteA (ws := (rw0_ G ra nn rf)) hx hlt hts hK hE hP hS (hl.1.trans hml.symm) (by omega) htx (Nat.le_of_ble_eq_true rfl) (Nat.le_of_ble_eq_true rfl) (Nat.le_of_ble_eq_true rfl) (Nat.le_of_ble_eq_true rfl) hlocks (fun q9 ce H hce hcv hcl hP hS _ => ?_)
  exact zr_tend hout hlocks hce hcv hcl hP hD hS rfl
theorem hd_X0_row : True ∧ yX0_row.cls ≠ "java/lang/invoke/MethodHandle" ∧ yX0_row.cls ≠ "java/lang/invoke/VarHandle" ∧ (parseMethodDescriptor yX0_row.desc).map (fun d => d.parameters.length) = some 2 := by decide +kernel
set_option maxHeartbeats 4000000 in
set_option maxRecDepth 100000 in
theorem mt_xk_rowO0 (l : Launch) (hlt : l.stackTraces = false) (G : zG)  (many : Int32) (hm : many < 0) (sz : Nat) : vx_Met l yX0_row (ws_ yX0_row cX0_row 2 (some (.object "java/lang/Object"))) (zR 165 3 222) (zPm G sz [.int 0, .int many] []) zNoQ (zXt G "java/lang/NegativeArraySizeException" [] (va_A [] sz)) 3 222 (va_A [] sz) := by
  refine zr_entT (by decide) (Nat.le_of_ble_eq_true rfl) ?_
  intro p e s m below meth c ⟨hx, hb, hr, hml, hown, hts, hlocks, hnm⟩ hout ls hl hP hK A hE hA hD hS
  have hown : s.vm.findClass RX0 = some m.cls := hown
  have hl : lv_has ls 2 [(0, .int 0), (1, .int many)] := hl
  obtain ⟨H, hH⟩ : ∃ H, H = s.heap := ⟨_, rfl⟩
  obtain ⟨locs, hlo⟩ : ∃ L : List Loc, L = [] := ⟨_, rfl⟩
  rw [← hH] at hP
  have hS : va_S A s.heap H locs := by rw [hH, hlo]; exact va_S.rf
  have hgo : W p l e (zR 165 3 222) s m ([.int 0, .int many] : List Value).toArray below meth c H locs 0 0 (vx_MQ below zNoQ (zXt G "java/lang/NegativeArraySizeException" [] A) ([.int 0, .int many] : List Value).toArray s 3 222 A) (F0 m 0 ls []) := ?_
  · rw [hH, hlo] at hgo; exact hgo
  clear hH hlo
  refine lv_iload_n hx hb dX0_row_0 rfl (lv_at hl 0 rfl) ?_
  refine lv_if_ne (tgt := 10) hx hb dX0_row_1 (by decide) (fun z => absurd (by decide) z) (fun _ => ?_)
  refine lv_iload_n hx hb dX0_row_4 rfl (lv_at hl 1 rfl) ?_
  refine vx_newarrayZ hx hb hm dX0_row_5 (fun tx htx => ?_)
  refine zr_noteN (ws := []) hx hlt hts hK hE hP hS (hl.1.trans hml.symm) hm htx (Nat.le_of_ble_eq_true rfl) (Nat.le_of_ble_eq_true rfl) (Nat.le_of_ble_eq_true rfl) (Nat.le_of_ble_eq_true rfl) hlocks (fun q9 ce H hce hcv hcl hP hS _ => ?_)
  exact zr_tend hout hlocks hce hcv hcl hP hD hS rfl
def rw1_ (G : zG) (ra : Nat) (nn : Nat) (rf : Nat → Int32) : va_W := [(ra, .inl (G.2 3, nn, .inl rf))]
set_option maxHeartbeats 4000000 in
set_option maxRecDepth 100000 in
theorem mt_xk_sort1 (l : Launch) (G : zG) (ra : Nat) (nn : Nat) (rf : Nat → Int32) : Met l yX0_sortOf (ws_ yX0_sortOf cX0_sortOf 1 (some .int)) (zR 1 0 0) (zPo G [.ref ra] (rw1_ G ra nn rf)) (k2_QcV (.int (1 : Int32))) 0 0 (fun _ => False) := by
  refine zr_entO (by decide) (Nat.le_of_ble_eq_true rfl) ?_
  intro p e s m below meth c ⟨hx, hb, hr, hml, hown, hts, hlocks, hnm⟩ ls hl hP hK hE
  have hown : s.vm.findClass RX0 = some m.cls := hown
  have hl : lv_has ls 1 [(0, .ref ra)] := hl
  refine lv_aload_n hx hb dX0_sortOf_0 rfl (lv_at hl 0 rfl) ?_
  refine va_instNo hx hb hown (hts _ q586) (hK.2.1.2.2.2.2.2.2 _ (List.mem_of_getElem? (i := 3) rfl)) (zr_arr hK hP 0 3 .short rfl rfl rfl rfl) dX0_sortOf_1 ?_
  refine lv_if_eq (tgt := 11) hx hb dX0_sortOf_4 (by decide) (fun _ => ?_) (fun z => absurd (by decide) z)
  refine lv_aload_n hx hb dX0_sortOf_11 rfl (lv_at hl 0 rfl) ?_
  refine va_instE hx hb hown (hts _ q587) (zr_arr hK hP 0 3 .short rfl rfl rfl rfl) dX0_sortOf_12 ?_
  refine lv_if_eq (tgt := 22) hx hb dX0_sortOf_15 (by decide) (fun z => absurd z (by decide)) (fun _ => ?_)
  refine lv_iconst (v := 1) hx hb dX0_sortOf_18 (by decide) ?_
  refine lv_goto (tgt := 34) hx hb dX0_sortOf_19 (by decide) ?_
  exact zr_oi hx hb hr hlocks dX0_sortOf_34 rfl
set_option maxHeartbeats 4000000 in
set_option maxRecDepth 100000 in
theorem mt_xk_size1 (l : Launch) (G : zG) (ra : Nat) (nn : Nat) (rf : Nat → Int32) (hnn : nn ≤ 60) : Met l yX0_sizeOf (ws_ yX0_sizeOf cX0_sizeOf 2 (some .int)) (zR 1 0 0) (zPo G [.ref ra] (rw1_ G ra nn rf)) (k2_QcV (.int (nI nn))) 0 0 (fun _ => False) := by
  refine zr_entO (by decide) (Nat.le_of_ble_eq_true rfl) ?_
  intro p e s m below meth c ⟨hx, hb, hr, hml, hown, hts, hlocks, hnm⟩ ls hl hP hK hE
  have hown : s.vm.findClass RX0 = some m.cls := hown
  have hl : lv_has ls 2 [(0, .ref ra)] := hl
  refine lv_aload_n hx hb dX0_sizeOf_0 rfl (lv_at hl 0 rfl) ?_
  refine va_instNo hx hb hown (hts _ q586) (hK.2.1.2.2.2.2.2.2 _ (List.mem_of_getElem? (i := 3) rfl)) (zr_arr hK hP 0 3 .short rfl rfl rfl rfl) dX0_sizeOf_1 ?_
  refine lv_if_eq (tgt := 15) hx hb dX0_sizeOf_4 (by decide) (fun _ => ?_) (fun z => absurd (by decide) z)
  refine lv_aload_n hx hb dX0_sizeOf_15 rfl (lv_at hl 0 rfl) ?_
  refine va_instE hx hb hown (hts _ q587) (zr_arr hK hP 0 3 .short rfl rfl rfl rfl) dX0_sizeOf_16 ?_
  refine lv_if_eq (tgt := 30) hx hb dX0_sizeOf_19 (by decide) (fun z => absurd z (by decide)) (fun _ => ?_)
  refine lv_aload_n hx hb dX0_sizeOf_22 rfl (lv_at hl 0 rfl) ?_
  refine va_castE hx hb hown (hts _ q587) (zr_arr hK hP 0 3 .short rfl rfl rfl rfl) dX0_sizeOf_23 ?_
  refine lv_astore_n (lv' := [(1, .ref ra), (0, .ref ra)]) hx hb dX0_sizeOf_26 rfl hl (by decide) rfl (fun ls hl => ?_)
  refine lv_aload_n hx hb dX0_sizeOf_27 rfl (lv_at hl 0 rfl) ?_
  refine va_alen hx hb hK.1 hP 0 3 rfl rfl (v := nI nn) rfl dX0_sizeOf_28 ?_
  exact zr_oi hx hb hr hlocks dX0_sizeOf_29 rfl
set_option maxHeartbeats 4000000 in
set_option maxRecDepth 100000 in
theorem mt_xk_num1 (l : Launch) (G : zG) (ra : Nat) (nn : Nat) (rf : Nat → Int32) (k : Nat) (hnn : nn ≤ 60) (hk : k < nn) : Met l yX0_number (ws_ yX0_number cX0_number 3 (some .long)) (zR 1 0 0) (zPo G [.ref ra, .int (nI k)] (rw1_ G ra nn rf)) (k2_QcV (.long ((rf k).toInt64))) 0 0 (fun _ => False) := by
  refine zr_entO (by decide) (Nat.le_of_ble_eq_true rfl) ?_
  intro p e s m below meth c ⟨hx, hb, hr, hml, hown, hts, hlocks, hnm⟩ ls hl hP hK hE
  have hown : s.vm.findClass RX0 = some m.cls := hown
  have hl : lv_has ls 3 [(0, .ref ra), (1, .int (nI k))] := hl
  refine lv_aload_n hx hb dX0_number_0 rfl (lv_at hl 0 rfl) ?_
  refine va_instNo hx hb hown (hts _ q586) (hK.2.1.2.2.2.2.2.2 _ (List.mem_of_getElem? (i := 3) rfl)) (zr_arr hK hP 0 3 .short rfl rfl rfl rfl) dX0_number_1 ?_
  refine lv_if_eq (tgt := 17) hx hb dX0_number_4 (by decide) (fun _ => ?_) (fun z => absurd (by decide) z)
  refine lv_aload_n hx hb dX0_number_17 rfl (lv_at hl 0 rfl) ?_
  refine va_instE hx hb hown (hts _ q587) (zr_arr hK hP 0 3 .short rfl rfl rfl rfl) dX0_number_18 ?_
  refine lv_if_eq (tgt := 34) hx hb dX0_number_21 (by decide) (fun z => absurd z (by decide)) (fun _ => ?_)
  refine lv_aload_n hx hb dX0_number_24 rfl (lv_at hl 0 rfl) ?_
  refine va_castE hx hb hown (hts _ q587) (zr_arr hK hP 0 3 .short rfl rfl rfl rfl) dX0_number_25 ?_
  refine lv_astore_n (lv' := [(2, .ref ra), (0, .ref ra), (1, .int (nI k))]) hx hb dX0_number_28 rfl hl (by decide) rfl (fun ls hl => ?_)
  refine lv_aload_n hx hb dX0_number_29 rfl (lv_at hl 0 rfl) ?_
  refine lv_iload_n hx hb dX0_number_30 rfl (lv_at hl 2 rfl) ?_
  refine zr_sald k (v := rf k) hx hb hK hP 0 rfl rfl (by omega) rfl (by omega) rfl dX0_number_31 ?_
  refine lv_i2l hx hb dX0_number_32 rfl ?_
  exact zr_ol hx hb hr hlocks dX0_number_33 rfl
def xk_put1 (rf : Nat → Int32) (k : Nat) (x : Int64) : (Nat → Int32) :=
  (upd rf k (vp_nar .short x.toInt32.toInt16.toInt32))
set_option maxHeartbeats 4000000 in
set_option maxRecDepth 100000 in
theorem mt_xk_put1 (l : Launch) (G : zG) (ra : Nat) (nn : Nat) (rf : Nat → Int32) (k : Nat) (x : Int64) (hnn : nn ≤ 60) (hk : k < nn) (sz : Nat) : Met l yX0_put (ws_ yX0_put cX0_put 7 none) (zR 1 0 0) (zPm G sz [.ref ra, .int (nI k), .long x] (rw1_ G ra nn rf)) (zQm G (True) none (rw1_ G ra nn (xk_put1 rf k x)) (va_A (rw1_ G ra nn rf) sz)) 0 0 (va_A (rw1_ G ra nn rf) sz) := by
  refine zr_entM (by decide) (Nat.le_of_ble_eq_true rfl) ?_
  intro p e s m below meth c ⟨hx, hb, hr, hml, hown, hts, hlocks, hnm⟩ ls hl hP hK A hE hA hD hS
  have hown : s.vm.findClass RX0 = some m.cls := hown
  have hl : lv_has ls 7 [(0, .ref ra), (1, .int (nI k)), (2, .long x)] := hl
  obtain ⟨H, hH⟩ : ∃ H, H = s.heap := ⟨_, rfl⟩
  obtain ⟨locs, hlo⟩ : ∃ L : List Loc, L = [] := ⟨_, rfl⟩
  rw [← hH] at hP
  have hS : va_S A s.heap H locs := by rw [hH, hlo]; exact va_S.rf
  have hgo : W p l e (zR 1 0 0) s m ([.ref ra, .int (nI k), .long x] : List Value).toArray below meth c H locs 0 0 (MQ below (zQm G (True) none (rw1_ G ra nn (xk_put1 rf k x)) A) ([.ref ra, .int (nI k), .long x] : List Value).toArray s 0 0 A) (F0 m 0 ls []) := ?_
  · rw [hH, hlo] at hgo; exact hgo
  clear hH hlo
  refine lv_aload_n hx hb dX0_put_0 rfl (lv_at hl 0 rfl) ?_
  refine va_instNo hx hb hown (hts _ q586) (hK.2.1.2.2.2.2.2.2 _ (List.mem_of_getElem? (i := 3) rfl)) (zr_arr hK hP 0 3 .short rfl rfl rfl rfl) dX0_put_1 ?_
  refine lv_if_eq (tgt := 23) hx hb dX0_put_4 (by decide) (fun _ => ?_) (fun z => absurd (by decide) z)
  refine lv_aload_n hx hb dX0_put_23 rfl (lv_at hl 0 rfl) ?_
  refine va_instE hx hb hown (hts _ q587) (zr_arr hK hP 0 3 .short rfl rfl rfl rfl) dX0_put_24 ?_
  refine lv_if_eq (tgt := 46) hx hb dX0_put_27 (by decide) (fun z => absurd z (by decide)) (fun _ => ?_)
  refine lv_aload_n hx hb dX0_put_30 rfl (lv_at hl 0 rfl) ?_
  refine va_castE hx hb hown (hts _ q587) (zr_arr hK hP 0 3 .short rfl rfl rfl rfl) dX0_put_31 ?_
  refine lv_astore (lv' := [(5, .ref ra), (0, .ref ra), (1, .int (nI k)), (2, .long x)]) hx hb dX0_put_34 hl (by decide) rfl (fun ls hl => ?_)
  refine lv_aload hx hb dX0_put_36 (lv_at hl 0 rfl) ?_
  refine lv_iload_n hx hb dX0_put_38 rfl (lv_at hl 2 rfl) ?_
  refine lv_lload_n hx hb dX0_put_39 rfl (lv_at hl 3 rfl) ?_
  refine lv_l2i hx hb dX0_put_40 rfl ?_
  refine lv_i2s hx hb dX0_put_41 rfl ?_
  refine zr_sast k (ws' := (rw1_ G ra nn (upd rf k (vp_nar .short x.toInt32.toInt16.toInt32)))) hx hb hK hP hD hS 0 rfl rfl (by omega) rfl (by omega) rfl dX0_put_42 (fun H locs hP hD hS => ?_)
  refine lv_goto (tgt := 75) hx hb dX0_put_43 (by decide) ?_
  have e_ : xk_put1 rf k x = upd rf k (vp_nar .short x.toInt32.toInt16.toInt32) := by rw [xk_put1]
  exact zr_mv hx hb hr hlocks hP hD hS dX0_put_75 rfl (by rw [e_]) trivial
set_option maxHeartbeats 4000000 in
set_option maxRecDepth 100000 in
theorem mt_xk_numO1 (l : Launch) (hlt : l.stackTraces = false) (G : zG) (ra : Nat) (nn : Nat) (rf : Nat → Int32) (i : Int32) (hnn : nn ≤ 60) (ho : ¬ vp_in i nn) (sz : Nat) : vx_Met l yX0_number (ws_ yX0_number cX0_number 3 (some .long)) (zR 165 3 222) (zPm G sz [.ref ra, .int i] (rw1_ G ra nn rf)) zNoQ (zXt G "java/lang/ArrayIndexOutOfBoundsException" (rw1_ G ra nn rf) (va_A (rw1_ G ra nn rf) sz)) 3 222 (va_A (rw1_ G ra nn rf) sz) := by
  refine zr_entT (by decide) (Nat.le_of_ble_eq_true rfl) ?_
  intro p e s m below meth c ⟨hx, hb, hr, hml, hown, hts, hlocks, hnm⟩ hout ls hl hP hK A hE hA hD hS
  have hown : s.vm.findClass RX0 = some m.cls := hown
  have hl : lv_has ls 3 [(0, .ref ra), (1, .int i)] := hl
  obtain ⟨H, hH⟩ : ∃ H, H = s.heap := ⟨_, rfl⟩
  obtain ⟨locs, hlo⟩ : ∃ L : List Loc, L = [] := ⟨_, rfl⟩
  rw [← hH] at hP
  have hS : va_S A s.heap H locs := by rw [hH, hlo]; exact va_S.rf
  have hgo : W p l e (zR 165 3 222) s m ([.ref ra, .int i] : List Value).toArray below meth c H locs 0 0 (vx_MQ below zNoQ (zXt G "java/lang/ArrayIndexOutOfBoundsException" (rw1_ G ra nn rf) A) ([.ref ra, .int i] : List Value).toArray s 3 222 A) (F0 m 0 ls []) := ?_
  · rw [hH, hlo] at hgo; exact hgo
  clear hH hlo
  refine lv_aload_n hx hb dX0_number_0 rfl (lv_at hl 0 rfl) ?_
  refine va_instNo hx hb hown (hts _ q586) (hK.2.1.2.2.2.2.2.2 _ (List.mem_of_getElem? (i := 3) rfl)) (zr_arr hK hP 0 3 .short rfl rfl rfl rfl) dX0_number_1 ?_
  refine lv_if_eq (tgt := 17) hx hb dX0_number_4 (by decide) (fun _ => ?_) (fun z => absurd (by decide) z)
  refine lv_aload_n hx hb dX0_number_17 rfl (lv_at hl 0 rfl) ?_
  refine va_instE hx hb hown (hts _ q587) (zr_arr hK hP 0 3 .short rfl rfl rfl rfl) dX0_number_18 ?_
  refine lv_if_eq (tgt := 34) hx hb dX0_number_21 (by decide) (fun z => absurd z (by decide)) (fun _ => ?_)
  refine lv_aload_n hx hb dX0_number_24 rfl (lv_at hl 0 rfl) ?_
  refine va_castE hx hb hown (hts _ q587) (zr_arr hK hP 0 3 .short rfl rfl rfl rfl) dX0_number_25 ?_
  refine lv_astore_n (lv' := [(2, .ref ra), (0, .ref ra), (1, .int i)]) hx hb dX0_number_28 rfl hl (by decide) rfl (fun ls hl => ?_)
  refine lv_aload_n hx hb dX0_number_29 rfl (lv_at hl 0 rfl) ?_
  refine lv_iload_n hx hb dX0_number_30 rfl (lv_at hl 2 rfl) ?_
  refine vx_saldZ hx hb hK.1 hP 0 3 rfl rfl ho dX0_number_31 (fun tx htx => ?_)
  refine zr_noteA (ws := (rw1_ G ra nn rf)) hx hlt hts hK hE hP hS (hl.1.trans hml.symm) (by omega) htx (Nat.le_of_ble_eq_true rfl) (Nat.le_of_ble_eq_true rfl) (Nat.le_of_ble_eq_true rfl) (Nat.le_of_ble_eq_true rfl) hlocks (fun q9 ce H hce hcv hcl hP hS _ => ?_)
  exact zr_tend hout hlocks hce hcv hcl hP hD hS rfl
set_option maxHeartbeats 4000000 in
set_option maxRecDepth 100000 in
theorem mt_xk_putO1 (l : Launch) (hlt : l.stackTraces = false) (G : zG) (ra : Nat) (nn : Nat) (rf : Nat → Int32) (i : Int32) (x : Int64) (hnn : nn ≤ 60) (ho : ¬ vp_in i nn) (sz : Nat) : vx_Met l yX0_put (ws_ yX0_put cX0_put 7 none) (zR 165 3 222) (zPm G sz [.ref ra, .int i, .long x] (rw1_ G ra nn rf)) zNoQ (zXt G "java/lang/ArrayIndexOutOfBoundsException" (rw1_ G ra nn rf) (va_A (rw1_ G ra nn rf) sz)) 3 222 (va_A (rw1_ G ra nn rf) sz) := by
  refine zr_entT (by decide) (Nat.le_of_ble_eq_true rfl) ?_
  intro p e s m below meth c ⟨hx, hb, hr, hml, hown, hts, hlocks, hnm⟩ hout ls hl hP hK A hE hA hD hS
  have hown : s.vm.findClass RX0 = some m.cls := hown
  have hl : lv_has ls 7 [(0, .ref ra), (1, .int i), (2, .long x)] := hl
  obtain ⟨H, hH⟩ : ∃ H, H = s.heap := ⟨_, rfl⟩
  obtain ⟨locs, hlo⟩ : ∃ L : List Loc, L = [] := ⟨_, rfl⟩
  rw [← hH] at hP
  have hS : va_S A s.heap H locs := by rw [hH, hlo]; exact va_S.rf
  have hgo : W p l e (zR 165 3 222) s m ([.ref ra, .int i, .long x] : List Value).toArray below meth c H locs 0 0 (vx_MQ below zNoQ (zXt G "java/lang/ArrayIndexOutOfBoundsException" (rw1_ G ra nn rf) A) ([.ref ra, .int i, .long x] : List Value).toArray s 3 222 A) (F0 m 0 ls []) := ?_
  · rw [hH, hlo] at hgo; exact hgo
  clear hH hlo
  refine lv_aload_n hx hb dX0_put_0 rfl (lv_at hl 0 rfl) ?_
  refine va_instNo hx hb hown (hts _ q586) (hK.2.1.2.2.2.2.2.2 _ (List.mem_of_getElem? (i := 3) rfl)) (zr_arr hK hP 0 3 .short rfl rfl rfl rfl) dX0_put_1 ?_
  refine lv_if_eq (tgt := 23) hx hb dX0_put_4 (by decide) (fun _ => ?_) (fun z => absurd (by decide) z)
  refine lv_aload_n hx hb dX0_put_23 rfl (lv_at hl 0 rfl) ?_
  refine va_instE hx hb hown (hts _ q587) (zr_arr hK hP 0 3 .short rfl rfl rfl rfl) dX0_put_24 ?_
  refine lv_if_eq (tgt := 46) hx hb dX0_put_27 (by decide) (fun z => absurd z (by decide)) (fun _ => ?_)
  refine lv_aload_n hx hb dX0_put_30 rfl (lv_at hl 0 rfl) ?_
  refine va_castE hx hb hown (hts _ q587) (zr_arr hK hP 0 3 .short rfl rfl rfl rfl) dX0_put_31 ?_
  refine lv_astore (lv' := [(5, .ref ra), (0, .ref ra), (1, .int i), (2, .long x)]) hx hb dX0_put_34 hl (by decide) rfl (fun ls hl => ?_)
  refine lv_aload hx hb dX0_put_36 (lv_at hl 0 rfl) ?_
  refine lv_iload_n hx hb dX0_put_38 rfl (lv_at hl 2 rfl) ?_
  refine lv_lload_n hx hb dX0_put_39 rfl (lv_at hl 3 rfl) ?_
  refine lv_l2i hx hb dX0_put_40 rfl ?_
  refine lv_i2s hx hb dX0_put_41 rfl ?_
  refine vx_sastZ hx hb hK.1 hP 0 3 rfl rfl ho dX0_put_42 (fun tx htx => ?_)
  refine zr_noteA (ws := (rw1_ G ra nn rf)) hx hlt hts hK hE hP hS (hl.1.trans hml.symm) (by omega) htx (Nat.le_of_ble_eq_true rfl) (Nat.le_of_ble_eq_true rfl) (Nat.le_of_ble_eq_true rfl) (Nat.le_of_ble_eq_true rfl) hlocks (fun q9 ce H hce hcv hcl hP hS _ => ?_)
  exact zr_tend hout hlocks hce hcv hcl hP hD hS rfl
set_option maxHeartbeats 4000000 in
set_option maxRecDepth 100000 in
theorem mt_xk_rowO1 (l : Launch) (hlt : l.stackTraces = false) (G : zG)  (many : Int32) (hm : many < 0) (sz : Nat) : vx_Met l yX0_row (ws_ yX0_row cX0_row 2 (some (.object "java/lang/Object"))) (zR 165 3 222) (zPm G sz [.int 1, .int many] []) zNoQ (zXt G "java/lang/NegativeArraySizeException" [] (va_A [] sz)) 3 222 (va_A [] sz) := by
  refine zr_entT (by decide) (Nat.le_of_ble_eq_true rfl) ?_
  intro p e s m below meth c ⟨hx, hb, hr, hml, hown, hts, hlocks, hnm⟩ hout ls hl hP hK A hE hA hD hS
  have hown : s.vm.findClass RX0 = some m.cls := hown
  have hl : lv_has ls 2 [(0, .int 1), (1, .int many)] := hl
  obtain ⟨H, hH⟩ : ∃ H, H = s.heap := ⟨_, rfl⟩
  obtain ⟨locs, hlo⟩ : ∃ L : List Loc, L = [] := ⟨_, rfl⟩
  rw [← hH] at hP
  have hS : va_S A s.heap H locs := by rw [hH, hlo]; exact va_S.rf
  have hgo : W p l e (zR 165 3 222) s m ([.int 1, .int many] : List Value).toArray below meth c H locs 0 0 (vx_MQ below zNoQ (zXt G "java/lang/NegativeArraySizeException" [] A) ([.int 1, .int many] : List Value).toArray s 3 222 A) (F0 m 0 ls []) := ?_
  · rw [hH, hlo] at hgo; exact hgo
  clear hH hlo
  refine lv_iload_n hx hb dX0_row_0 rfl (lv_at hl 0 rfl) ?_
  refine lv_if_ne (tgt := 10) hx hb dX0_row_1 (by decide) (fun _ => ?_) (fun z => absurd z (by decide))
  refine lv_iload_n hx hb dX0_row_10 rfl (lv_at hl 0 rfl) ?_
  refine lv_iconst (v := 1) hx hb dX0_row_11 (by decide) ?_
  refine lv_icmp_ne (tgt := 21) hx hb dX0_row_12 (by decide) (fun z => absurd (by decide) z) (fun _ => ?_)
  refine lv_iload_n hx hb dX0_row_15 rfl (lv_at hl 1 rfl) ?_
  refine vx_newarrayZ hx hb hm dX0_row_16 (fun tx htx => ?_)
  refine zr_noteN (ws := []) hx hlt hts hK hE hP hS (hl.1.trans hml.symm) hm htx (Nat.le_of_ble_eq_true rfl) (Nat.le_of_ble_eq_true rfl) (Nat.le_of_ble_eq_true rfl) (Nat.le_of_ble_eq_true rfl) hlocks (fun q9 ce H hce hcv hcl hP hS _ => ?_)
  exact zr_tend hout hlocks hce hcv hcl hP hD hS rfl
def rw2_ (G : zG) (ra : Nat) (nn : Nat) (rf : Nat → Int32) : va_W := [(ra, .inl (G.2 0, nn, .inl rf))]
set_option maxHeartbeats 4000000 in
set_option maxRecDepth 100000 in
theorem mt_xk_sort2 (l : Launch) (G : zG) (ra : Nat) (nn : Nat) (rf : Nat → Int32) : Met l yX0_sortOf (ws_ yX0_sortOf cX0_sortOf 1 (some .int)) (zR 1 0 0) (zPo G [.ref ra] (rw2_ G ra nn rf)) (k2_QcV (.int (2 : Int32))) 0 0 (fun _ => False) := by
  refine zr_entO (by decide) (Nat.le_of_ble_eq_true rfl) ?_
  intro p e s m below meth c ⟨hx, hb, hr, hml, hown, hts, hlocks, hnm⟩ ls hl hP hK hE
  have hown : s.vm.findClass RX0 = some m.cls := hown
  have hl : lv_has ls 1 [(0, .ref ra)] := hl
  refine lv_aload_n hx hb dX0_sortOf_0 rfl (lv_at hl 0 rfl) ?_
  refine va_instNo hx hb hown (hts _ q586) (hK.2.1.2.2.2.2.2.2 _ (List.mem_of_getElem? (i := 6) rfl)) (zr_arr hK hP 0 0 .int rfl rfl rfl rfl) dX0_sortOf_1 ?_
  refine lv_if_eq (tgt := 11) hx hb dX0_sortOf_4 (by decide) (fun _ => ?_) (fun z => absurd (by decide) z)
  refine lv_aload_n hx hb dX0_sortOf_11 rfl (lv_at hl 0 rfl) ?_
  refine va_instNo hx hb hown (hts _ q587) (hK.2.1.2.2.2.2.2.2 _ (List.mem_of_getElem? (i := 7) rfl)) (zr_arr hK hP 0 0 .int rfl rfl rfl rfl) dX0_sortOf_12 ?_
  refine lv_if_eq (tgt := 22) hx hb dX0_sortOf_15 (by decide) (fun _ => ?_) (fun z => absurd (by decide) z)
  refine lv_aload_n hx hb dX0_sortOf_22 rfl (lv_at hl 0 rfl) ?_
  refine va_instE hx hb hown (hts _ q588) (zr_arr hK hP 0 0 .int rfl rfl rfl rfl) dX0_sortOf_23 ?_
  refine lv_if_eq (tgt := 33) hx hb dX0_sortOf_26 (by decide) (fun z => absurd z (by decide)) (fun _ => ?_)
  refine lv_iconst (v := 2) hx hb dX0_sortOf_29 (by decide) ?_
  refine lv_goto (tgt := 34) hx hb dX0_sortOf_30 (by decide) ?_
  exact zr_oi hx hb hr hlocks dX0_sortOf_34 rfl
set_option maxHeartbeats 4000000 in
set_option maxRecDepth 100000 in
theorem mt_xk_size2 (l : Launch) (G : zG) (ra : Nat) (nn : Nat) (rf : Nat → Int32) (hnn : nn ≤ 60) : Met l yX0_sizeOf (ws_ yX0_sizeOf cX0_sizeOf 2 (some .int)) (zR 1 0 0) (zPo G [.ref ra] (rw2_ G ra nn rf)) (k2_QcV (.int (nI nn))) 0 0 (fun _ => False) := by
  refine zr_entO (by decide) (Nat.le_of_ble_eq_true rfl) ?_
  intro p e s m below meth c ⟨hx, hb, hr, hml, hown, hts, hlocks, hnm⟩ ls hl hP hK hE
  have hown : s.vm.findClass RX0 = some m.cls := hown
  have hl : lv_has ls 2 [(0, .ref ra)] := hl
  refine lv_aload_n hx hb dX0_sizeOf_0 rfl (lv_at hl 0 rfl) ?_
  refine va_instNo hx hb hown (hts _ q586) (hK.2.1.2.2.2.2.2.2 _ (List.mem_of_getElem? (i := 6) rfl)) (zr_arr hK hP 0 0 .int rfl rfl rfl rfl) dX0_sizeOf_1 ?_
  refine lv_if_eq (tgt := 15) hx hb dX0_sizeOf_4 (by decide) (fun _ => ?_) (fun z => absurd (by decide) z)
  refine lv_aload_n hx hb dX0_sizeOf_15 rfl (lv_at hl 0 rfl) ?_
  refine va_instNo hx hb hown (hts _ q587) (hK.2.1.2.2.2.2.2.2 _ (List.mem_of_getElem? (i := 7) rfl)) (zr_arr hK hP 0 0 .int rfl rfl rfl rfl) dX0_sizeOf_16 ?_
  refine lv_if_eq (tgt := 30) hx hb dX0_sizeOf_19 (by decide) (fun _ => ?_) (fun z => absurd (by decide) z)
  refine lv_aload_n hx hb dX0_sizeOf_30 rfl (lv_at hl 0 rfl) ?_
  refine va_instE hx hb hown (hts _ q588) (zr_arr hK hP 0 0 .int rfl rfl rfl rfl) dX0_sizeOf_31 ?_
  refine lv_if_eq (tgt := 47) hx hb dX0_sizeOf_34 (by decide) (fun z => absurd z (by decide)) (fun _ => ?_)
  refine lv_aload_n hx hb dX0_sizeOf_37 rfl (lv_at hl 0 rfl) ?_
  refine va_castE hx hb hown (hts _ q588) (zr_arr hK hP 0 0 .int rfl rfl rfl rfl) dX0_sizeOf_38 ?_
  refine lv_astore_n (lv' := [(1, .ref ra), (0, .ref ra)]) hx hb dX0_sizeOf_41 rfl hl (by decide) rfl (fun ls hl => ?_)
  refine lv_aload_n hx hb dX0_sizeOf_42 rfl (lv_at hl 0 rfl) ?_
  refine va_alen hx hb hK.1 hP 0 0 rfl rfl (v := nI nn) rfl dX0_sizeOf_43 ?_
  refine lv_goto (tgt := 52) hx hb dX0_sizeOf_44 (by decide) ?_
  exact zr_oi hx hb hr hlocks dX0_sizeOf_52 rfl
set_option maxHeartbeats 4000000 in
set_option maxRecDepth 100000 in
theorem mt_xk_num2 (l : Launch) (G : zG) (ra : Nat) (nn : Nat) (rf : Nat → Int32) (k : Nat) (hnn : nn ≤ 60) (hk : k < nn) : Met l yX0_number (ws_ yX0_number cX0_number 3 (some .long)) (zR 1 0 0) (zPo G [.ref ra, .int (nI k)] (rw2_ G ra nn rf)) (k2_QcV (.long ((rf k).toInt64))) 0 0 (fun _ => False) := by
  refine zr_entO (by decide) (Nat.le_of_ble_eq_true rfl) ?_
  intro p e s m below meth c ⟨hx, hb, hr, hml, hown, hts, hlocks, hnm⟩ ls hl hP hK hE
  have hown : s.vm.findClass RX0 = some m.cls := hown
  have hl : lv_has ls 3 [(0, .ref ra), (1, .int (nI k))] := hl
  refine lv_aload_n hx hb dX0_number_0 rfl (lv_at hl 0 rfl) ?_
  refine va_instNo hx hb hown (hts _ q586) (hK.2.1.2.2.2.2.2.2 _ (List.mem_of_getElem? (i := 6) rfl)) (zr_arr hK hP 0 0 .int rfl rfl rfl rfl) dX0_number_1 ?_
  refine lv_if_eq (tgt := 17) hx hb dX0_number_4 (by decide) (fun _ => ?_) (fun z => absurd (by decide) z)
  refine lv_aload_n hx hb dX0_number_17 rfl (lv_at hl 0 rfl) ?_
  refine va_instNo hx hb hown (hts _ q587) (hK.2.1.2.2.2.2.2.2 _ (List.mem_of_getElem? (i := 7) rfl)) (zr_arr hK hP 0 0 .int rfl rfl rfl rfl) dX0_number_18 ?_
  refine lv_if_eq (tgt := 34) hx hb dX0_number_21 (by decide) (fun _ => ?_) (fun z => absurd (by decide) z)
  refine lv_aload_n hx hb dX0_number_34 rfl (lv_at hl 0 rfl) ?_
  refine va_instE hx hb hown (hts _ q588) (zr_arr hK hP 0 0 .int rfl rfl rfl rfl) dX0_number_35 ?_
  refine lv_if_eq (tgt := 53) hx hb dX0_number_38 (by decide) (fun z => absurd z (by decide)) (fun _ => ?_)
  refine lv_aload_n hx hb dX0_number_41 rfl (lv_at hl 0 rfl) ?_
  refine va_castE hx hb hown (hts _ q588) (zr_arr hK hP 0 0 .int rfl rfl rfl rfl) dX0_number_42 ?_
  refine lv_astore_n (lv' := [(2, .ref ra), (0, .ref ra), (1, .int (nI k))]) hx hb dX0_number_45 rfl hl (by decide) rfl (fun ls hl => ?_)
  refine lv_aload_n hx hb dX0_number_46 rfl (lv_at hl 0 rfl) ?_
  refine lv_iload_n hx hb dX0_number_47 rfl (lv_at hl 2 rfl) ?_
  refine zr_iald k (v := rf k) hx hb hK hP 0 rfl rfl (by omega) rfl (by omega) rfl dX0_number_48 ?_
  refine lv_i2l hx hb dX0_number_49 rfl ?_
  refine lv_goto (tgt := 59) hx hb dX0_number_50 (by decide) ?_
  exact zr_ol hx hb hr hlocks dX0_number_59 rfl
def xk_put2 (rf : Nat → Int32) (k : Nat) (x : Int64) : (Nat → Int32) :=
  (upd rf k x.toInt32)
set_option maxHeartbeats 4000000 in
set_option maxRecDepth 100000 in
theorem mt_xk_put2 (l : Launch) (G : zG) (ra : Nat) (nn : Nat) (rf : Nat → Int32) (k : Nat) (x : Int64) (hnn : nn ≤ 60) (hk : k < nn) (sz : Nat) : Met l yX0_put (ws_ yX0_put cX0_put 7 none) (zR 1 0 0) (zPm G sz [.ref ra, .int (nI k), .long x] (rw2_ G ra nn rf)) (zQm G (True) none (rw2_ G ra nn (xk_put2 rf k x)) (va_A (rw2_ G ra nn rf) sz)) 0 0 (va_A (rw2_ G ra nn rf) sz) := by
  refine zr_entM (by decide) (Nat.le_of_ble_eq_true rfl) ?_
  intro p e s m below meth c ⟨hx, hb, hr, hml, hown, hts, hlocks, hnm⟩ ls hl hP hK A hE hA hD hS
  have hown : s.vm.findClass RX0 = some m.cls := hown
  have hl : lv_has ls 7 [(0, .ref ra), (1, .int (nI k)), (2, .long x)] := hl
  obtain ⟨H, hH⟩ : ∃ H, H = s.heap := ⟨_, rfl⟩
  obtain ⟨locs, hlo⟩ : ∃ L : List Loc, L = [] := ⟨_, rfl⟩
  rw [← hH] at hP
  have hS : va_S A s.heap H locs := by rw [hH, hlo]; exact va_S.rf
  have hgo : W p l e (zR 1 0 0) s m ([.ref ra, .int (nI k), .long x] : List Value).toArray below meth c H locs 0 0 (MQ below (zQm G (True) none (rw2_ G ra nn (xk_put2 rf k x)) A) ([.ref ra, .int (nI k), .long x] : List Value).toArray s 0 0 A) (F0 m 0 ls []) := ?_
  · rw [hH, hlo] at hgo; exact hgo
  clear hH hlo
  refine lv_aload_n hx hb dX0_put_0 rfl (lv_at hl 0 rfl) ?_
  refine va_instNo hx hb hown (hts _ q586) (hK.2.1.2.2.2.2.2.2 _ (List.mem_of_getElem? (i := 6) rfl)) (zr_arr hK hP 0 0 .int rfl rfl rfl rfl) dX0_put_1 ?_
  refine lv_if_eq (tgt := 23) hx hb dX0_put_4 (by decide) (fun _ => ?_) (fun z => absurd (by decide) z)
  refine lv_aload_n hx hb dX0_put_23 rfl (lv_at hl 0 rfl) ?_
  refine va_instNo hx hb hown (hts _ q587) (hK.2.1.2.2.2.2.2.2 _ (List.mem_of_getElem? (i := 7) rfl)) (zr_arr hK hP 0 0 .int rfl rfl rfl rfl) dX0_put_24 ?_
  refine lv_if_eq (tgt := 46) hx hb dX0_put_27 (by decide) (fun _ => ?_) (fun z => absurd (by decide) z)
  refine lv_aload_n hx hb dX0_put_46 rfl (lv_at hl 0 rfl) ?_
  refine va_instE hx hb hown (hts _ q588) (zr_arr hK hP 0 0 .int rfl rfl rfl rfl) dX0_put_47 ?_
  refine lv_if_eq (tgt := 68) hx hb dX0_put_50 (by decide) (fun z => absurd z (by decide)) (fun _ => ?_)
  refine lv_aload_n hx hb dX0_put_53 rfl (lv_at hl 0 rfl) ?_
  refine va_castE hx hb hown (hts _ q588) (zr_arr hK hP 0 0 .int rfl rfl rfl rfl) dX0_put_54 ?_
  refine lv_astore (lv' := [(6, .ref ra), (0, .ref ra), (1, .int (nI k)), (2, .long x)]) hx hb dX0_put_57 hl (by decide) rfl (fun ls hl => ?_)
  refine lv_aload hx hb dX0_put_59 (lv_at hl 0 rfl) ?_
  refine lv_iload_n hx hb dX0_put_61 rfl (lv_at hl 2 rfl) ?_
  refine lv_lload_n hx hb dX0_put_62 rfl (lv_at hl 3 rfl) ?_
  refine lv_l2i hx hb dX0_put_63 rfl ?_
  refine zr_iast k (ws' := (rw2_ G ra nn (upd rf k x.toInt32))) hx hb hK hP hD hS 0 rfl rfl (by omega) rfl (by omega) rfl dX0_put_64 (fun H locs hP hD hS => ?_)
  refine lv_goto (tgt := 75) hx hb dX0_put_65 (by decide) ?_
  have e_ : xk_put2 rf k x = upd rf k x.toInt32 := by rw [xk_put2]
  exact zr_mv hx hb hr hlocks hP hD hS dX0_put_75 rfl (by rw [e_]) trivial
set_option maxHeartbeats 4000000 in
set_option maxRecDepth 100000 in
theorem mt_xk_numO2 (l : Launch) (hlt : l.stackTraces = false) (G : zG) (ra : Nat) (nn : Nat) (rf : Nat → Int32) (i : Int32) (hnn : nn ≤ 60) (ho : ¬ vp_in i nn) (sz : Nat) : vx_Met l yX0_number (ws_ yX0_number cX0_number 3 (some .long)) (zR 165 3 222) (zPm G sz [.ref ra, .int i] (rw2_ G ra nn rf)) zNoQ (zXt G "java/lang/ArrayIndexOutOfBoundsException" (rw2_ G ra nn rf) (va_A (rw2_ G ra nn rf) sz)) 3 222 (va_A (rw2_ G ra nn rf) sz) := by
  refine zr_entT (by decide) (Nat.le_of_ble_eq_true rfl) ?_
  intro p e s m below meth c ⟨hx, hb, hr, hml, hown, hts, hlocks, hnm⟩ hout ls hl hP hK A hE hA hD hS
  have hown : s.vm.findClass RX0 = some m.cls := hown
  have hl : lv_has ls 3 [(0, .ref ra), (1, .int i)] := hl
  obtain ⟨H, hH⟩ : ∃ H, H = s.heap := ⟨_, rfl⟩
  obtain ⟨locs, hlo⟩ : ∃ L : List Loc, L = [] := ⟨_, rfl⟩
  rw [← hH] at hP
  have hS : va_S A s.heap H locs := by rw [hH, hlo]; exact va_S.rf
  have hgo : W p l e (zR 165 3 222) s m ([.ref ra, .int i] : List Value).toArray below meth c H locs 0 0 (vx_MQ below zNoQ (zXt G "java/lang/ArrayIndexOutOfBoundsException" (rw2_ G ra nn rf) A) ([.ref ra, .int i] : List Value).toArray s 3 222 A) (F0 m 0 ls []) := ?_
  · rw [hH, hlo] at hgo; exact hgo
  clear hH hlo
  refine lv_aload_n hx hb dX0_number_0 rfl (lv_at hl 0 rfl) ?_
  refine va_instNo hx hb hown (hts _ q586) (hK.2.1.2.2.2.2.2.2 _ (List.mem_of_getElem? (i := 6) rfl)) (zr_arr hK hP 0 0 .int rfl rfl rfl rfl) dX0_number_1 ?_
  refine lv_if_eq (tgt := 17) hx hb dX0_number_4 (by decide) (fun _ => ?_) (fun z => absurd (by decide) z)
  refine lv_aload_n hx hb dX0_number_17 rfl (lv_at hl 0 rfl) ?_
  refine va_instNo hx hb hown (hts _ q587) (hK.2.1.2.2.2.2.2.2 _ (List.mem_of_getElem? (i := 7) rfl)) (zr_arr hK hP 0 0 .int rfl rfl rfl rfl) dX0_number_18 ?_
  refine lv_if_eq (tgt := 34) hx hb dX0_number_21 (by decide) (fun _ => ?_) (fun z => absurd (by decide) z)
  refine lv_aload_n hx hb dX0_number_34 rfl (lv_at hl 0 rfl) ?_
  refine va_instE hx hb hown (hts _ q588) (zr_arr hK hP 0 0 .int rfl rfl rfl rfl) dX0_number_35 ?_
  refine lv_if_eq (tgt := 53) hx hb dX0_number_38 (by decide) (fun z => absurd z (by decide)) (fun _ => ?_)
  refine lv_aload_n hx hb dX0_number_41 rfl (lv_at hl 0 rfl) ?_
  refine va_castE hx hb hown (hts _ q588) (zr_arr hK hP 0 0 .int rfl rfl rfl rfl) dX0_number_42 ?_
  refine lv_astore_n (lv' := [(2, .ref ra), (0, .ref ra), (1, .int i)]) hx hb dX0_number_45 rfl hl (by decide) rfl (fun ls hl => ?_)
  refine lv_aload_n hx hb dX0_number_46 rfl (lv_at hl 0 rfl) ?_
  refine lv_iload_n hx hb dX0_number_47 rfl (lv_at hl 2 rfl) ?_
  refine vx_ialdZ hx hb hK.1 hP 0 0 rfl rfl ho dX0_number_48 (fun tx htx => ?_)
  refine zr_noteA (ws := (rw2_ G ra nn rf)) hx hlt hts hK hE hP hS (hl.1.trans hml.symm) (by omega) htx (Nat.le_of_ble_eq_true rfl) (Nat.le_of_ble_eq_true rfl) (Nat.le_of_ble_eq_true rfl) (Nat.le_of_ble_eq_true rfl) hlocks (fun q9 ce H hce hcv hcl hP hS _ => ?_)
  exact zr_tend hout hlocks hce hcv hcl hP hD hS rfl
set_option maxHeartbeats 4000000 in
set_option maxRecDepth 100000 in
theorem mt_xk_putO2 (l : Launch) (hlt : l.stackTraces = false) (G : zG) (ra : Nat) (nn : Nat) (rf : Nat → Int32) (i : Int32) (x : Int64) (hnn : nn ≤ 60) (ho : ¬ vp_in i nn) (sz : Nat) : vx_Met l yX0_put (ws_ yX0_put cX0_put 7 none) (zR 165 3 222) (zPm G sz [.ref ra, .int i, .long x] (rw2_ G ra nn rf)) zNoQ (zXt G "java/lang/ArrayIndexOutOfBoundsException" (rw2_ G ra nn rf) (va_A (rw2_ G ra nn rf) sz)) 3 222 (va_A (rw2_ G ra nn rf) sz) := by
  refine zr_entT (by decide) (Nat.le_of_ble_eq_true rfl) ?_
  intro p e s m below meth c ⟨hx, hb, hr, hml, hown, hts, hlocks, hnm⟩ hout ls hl hP hK A hE hA hD hS
  have hown : s.vm.findClass RX0 = some m.cls := hown
  have hl : lv_has ls 7 [(0, .ref ra), (1, .int i), (2, .long x)] := hl
  obtain ⟨H, hH⟩ : ∃ H, H = s.heap := ⟨_, rfl⟩
  obtain ⟨locs, hlo⟩ : ∃ L : List Loc, L = [] := ⟨_, rfl⟩
  rw [← hH] at hP
  have hS : va_S A s.heap H locs := by rw [hH, hlo]; exact va_S.rf
  have hgo : W p l e (zR 165 3 222) s m ([.ref ra, .int i, .long x] : List Value).toArray below meth c H locs 0 0 (vx_MQ below zNoQ (zXt G "java/lang/ArrayIndexOutOfBoundsException" (rw2_ G ra nn rf) A) ([.ref ra, .int i, .long x] : List Value).toArray s 3 222 A) (F0 m 0 ls []) := ?_
  · rw [hH, hlo] at hgo; exact hgo
  clear hH hlo
  refine lv_aload_n hx hb dX0_put_0 rfl (lv_at hl 0 rfl) ?_
  refine va_instNo hx hb hown (hts _ q586) (hK.2.1.2.2.2.2.2.2 _ (List.mem_of_getElem? (i := 6) rfl)) (zr_arr hK hP 0 0 .int rfl rfl rfl rfl) dX0_put_1 ?_
  refine lv_if_eq (tgt := 23) hx hb dX0_put_4 (by decide) (fun _ => ?_) (fun z => absurd (by decide) z)
  refine lv_aload_n hx hb dX0_put_23 rfl (lv_at hl 0 rfl) ?_
  refine va_instNo hx hb hown (hts _ q587) (hK.2.1.2.2.2.2.2.2 _ (List.mem_of_getElem? (i := 7) rfl)) (zr_arr hK hP 0 0 .int rfl rfl rfl rfl) dX0_put_24 ?_
  refine lv_if_eq (tgt := 46) hx hb dX0_put_27 (by decide) (fun _ => ?_) (fun z => absurd (by decide) z)
  refine lv_aload_n hx hb dX0_put_46 rfl (lv_at hl 0 rfl) ?_
  refine va_instE hx hb hown (hts _ q588) (zr_arr hK hP 0 0 .int rfl rfl rfl rfl) dX0_put_47 ?_
  refine lv_if_eq (tgt := 68) hx hb dX0_put_50 (by decide) (fun z => absurd z (by decide)) (fun _ => ?_)
  refine lv_aload_n hx hb dX0_put_53 rfl (lv_at hl 0 rfl) ?_
  refine va_castE hx hb hown (hts _ q588) (zr_arr hK hP 0 0 .int rfl rfl rfl rfl) dX0_put_54 ?_
  refine lv_astore (lv' := [(6, .ref ra), (0, .ref ra), (1, .int i), (2, .long x)]) hx hb dX0_put_57 hl (by decide) rfl (fun ls hl => ?_)
  refine lv_aload hx hb dX0_put_59 (lv_at hl 0 rfl) ?_
  refine lv_iload_n hx hb dX0_put_61 rfl (lv_at hl 2 rfl) ?_
  refine lv_lload_n hx hb dX0_put_62 rfl (lv_at hl 3 rfl) ?_
  refine lv_l2i hx hb dX0_put_63 rfl ?_
  refine vx_iastZ hx hb hK.1 hP 0 0 rfl rfl ho dX0_put_64 (fun tx htx => ?_)
  refine zr_noteA (ws := (rw2_ G ra nn rf)) hx hlt hts hK hE hP hS (hl.1.trans hml.symm) (by omega) htx (Nat.le_of_ble_eq_true rfl) (Nat.le_of_ble_eq_true rfl) (Nat.le_of_ble_eq_true rfl) (Nat.le_of_ble_eq_true rfl) hlocks (fun q9 ce H hce hcv hcl hP hS _ => ?_)
  exact zr_tend hout hlocks hce hcv hcl hP hD hS rfl
set_option maxHeartbeats 4000000 in
set_option maxRecDepth 100000 in
theorem mt_xk_rowO2 (l : Launch) (hlt : l.stackTraces = false) (G : zG)  (many : Int32) (hm : many < 0) (sz : Nat) : vx_Met l yX0_row (ws_ yX0_row cX0_row 2 (some (.object "java/lang/Object"))) (zR 165 3 222) (zPm G sz [.int 2, .int many] []) zNoQ (zXt G "java/lang/NegativeArraySizeException" [] (va_A [] sz)) 3 222 (va_A [] sz) := by
  refine zr_entT (by decide) (Nat.le_of_ble_eq_true rfl) ?_
  intro p e s m below meth c ⟨hx, hb, hr, hml, hown, hts, hlocks, hnm⟩ hout ls hl hP hK A hE hA hD hS
  have hown : s.vm.findClass RX0 = some m.cls := hown
  have hl : lv_has ls 2 [(0, .int 2), (1, .int many)] := hl
  obtain ⟨H, hH⟩ : ∃ H, H = s.heap := ⟨_, rfl⟩
  obtain ⟨locs, hlo⟩ : ∃ L : List Loc, L = [] := ⟨_, rfl⟩
  rw [← hH] at hP
  have hS : va_S A s.heap H locs := by rw [hH, hlo]; exact va_S.rf
  have hgo : W p l e (zR 165 3 222) s m ([.int 2, .int many] : List Value).toArray below meth c H locs 0 0 (vx_MQ below zNoQ (zXt G "java/lang/NegativeArraySizeException" [] A) ([.int 2, .int many] : List Value).toArray s 3 222 A) (F0 m 0 ls []) := ?_
  · rw [hH, hlo] at hgo; exact hgo
  clear hH hlo
  refine lv_iload_n hx hb dX0_row_0 rfl (lv_at hl 0 rfl) ?_
  refine lv_if_ne (tgt := 10) hx hb dX0_row_1 (by decide) (fun _ => ?_) (fun z => absurd z (by decide))
  refine lv_iload_n hx hb dX0_row_10 rfl (lv_at hl 0 rfl) ?_
  refine lv_iconst (v := 1) hx hb dX0_row_11 (by decide) ?_
  refine lv_icmp_ne (tgt := 21) hx hb dX0_row_12 (by decide) (fun _ => ?_) (fun z => absurd z (by decide))
  refine lv_iload_n hx hb dX0_row_21 rfl (lv_at hl 0 rfl) ?_
  refine lv_iconst (v := 2) hx hb dX0_row_22 (by decide) ?_
  refine lv_icmp_ne (tgt := 32) hx hb dX0_row_23 (by decide) (fun z => absurd (by decide) z) (fun _ => ?_)
  refine lv_iload_n hx hb dX0_row_26 rfl (lv_at hl 1 rfl) ?_
  refine vx_newarrayZ hx hb hm dX0_row_27 (fun tx htx => ?_)
  refine zr_noteN (ws := []) hx hlt hts hK hE hP hS (hl.1.trans hml.symm) hm htx (Nat.le_of_ble_eq_true rfl) (Nat.le_of_ble_eq_true rfl) (Nat.le_of_ble_eq_true rfl) (Nat.le_of_ble_eq_true rfl) hlocks (fun q9 ce H hce hcv hcl hP hS _ => ?_)
  exact zr_tend hout hlocks hce hcv hcl hP hD hS rfl
def rw3_ (G : zG) (ra : Nat) (nn : Nat) (rf : Nat → Int64) : va_W := [(ra, .inl (G.2 1, nn, .inr (.inl rf)))]
set_option maxHeartbeats 4000000 in
set_option maxRecDepth 100000 in
theorem mt_xk_sort3 (l : Launch) (G : zG) (ra : Nat) (nn : Nat) (rf : Nat → Int64) : Met l yX0_sortOf (ws_ yX0_sortOf cX0_sortOf 1 (some .int)) (zR 1 0 0) (zPo G [.ref ra] (rw3_ G ra nn rf)) (k2_QcV (.int (3 : Int32))) 0 0 (fun _ => False) := by
  refine zr_entO (by decide) (Nat.le_of_ble_eq_true rfl) ?_
  intro p e s m below meth c ⟨hx, hb, hr, hml, hown, hts, hlocks, hnm⟩ ls hl hP hK hE
  have hown : s.vm.findClass RX0 = some m.cls := hown
  have hl : lv_has ls 1 [(0, .ref ra)] := hl
  refine lv_aload_n hx hb dX0_sortOf_0 rfl (lv_at hl 0 rfl) ?_
  refine va_instNo hx hb hown (hts _ q586) (hK.2.1.2.2.2.2.2.2 _ (List.mem_of_getElem? (i := 9) rfl)) (zr_arr hK hP 0 1 .long rfl rfl rfl rfl) dX0_sortOf_1 ?_
  refine lv_if_eq (tgt := 11) hx hb dX0_sortOf_4 (by decide) (fun _ => ?_) (fun z => absurd (by decide) z)
  refine lv_aload_n hx hb dX0_sortOf_11 rfl (lv_at hl 0 rfl) ?_
  refine va_instNo hx hb hown (hts _ q587) (hK.2.1.2.2.2.2.2.2 _ (List.mem_of_getElem? (i := 10) rfl)) (zr_arr hK hP 0 1 .long rfl rfl rfl rfl) dX0_sortOf_12 ?_
  refine lv_if_eq (tgt := 22) hx hb dX0_sortOf_15 (by decide) (fun _ => ?_) (fun z => absurd (by decide) z)
  refine lv_aload_n hx hb dX0_sortOf_22 rfl (lv_at hl 0 rfl) ?_
  refine va_instNo hx hb hown (hts _ q588) (hK.2.1.2.2.2.2.2.2 _ (List.mem_of_getElem? (i := 11) rfl)) (zr_arr hK hP 0 1 .long rfl rfl rfl rfl) dX0_sortOf_23 ?_
  refine lv_if_eq (tgt := 33) hx hb dX0_sortOf_26 (by decide) (fun _ => ?_) (fun z => absurd (by decide) z)
  refine lv_iconst (v := 3) hx hb dX0_sortOf_33 (by decide) ?_
  exact zr_oi hx hb hr hlocks dX0_sortOf_34 rfl
set_option maxHeartbeats 4000000 in
set_option maxRecDepth 100000 in
theorem mt_xk_size3 (l : Launch) (G : zG) (ra : Nat) (nn : Nat) (rf : Nat → Int64) (hnn : nn ≤ 60) : Met l yX0_sizeOf (ws_ yX0_sizeOf cX0_sizeOf 2 (some .int)) (zR 1 0 0) (zPo G [.ref ra] (rw3_ G ra nn rf)) (k2_QcV (.int (nI nn))) 0 0 (fun _ => False) := by
  refine zr_entO (by decide) (Nat.le_of_ble_eq_true rfl) ?_
  intro p e s m below meth c ⟨hx, hb, hr, hml, hown, hts, hlocks, hnm⟩ ls hl hP hK hE
  have hown : s.vm.findClass RX0 = some m.cls := hown
  have hl : lv_has ls 2 [(0, .ref ra)] := hl
  refine lv_aload_n hx hb dX0_sizeOf_0 rfl (lv_at hl 0 rfl) ?_
  refine va_instNo hx hb hown (hts _ q586) (hK.2.1.2.2.2.2.2.2 _ (List.mem_of_getElem? (i := 9) rfl)) (zr_arr hK hP 0 1 .long rfl rfl rfl rfl) dX0_sizeOf_1 ?_
  refine lv_if_eq (tgt := 15) hx hb dX0_sizeOf_4 (by decide) (fun _ => ?_) (fun z => absurd (by decide) z)
  refine lv_aload_n hx hb dX0_sizeOf_15 rfl (lv_at hl 0 rfl) ?_
  refine va_instNo hx hb hown (hts _ q587) (hK.2.1.2.2.2.2.2.2 _ (List.mem_of_getElem? (i := 10) rfl)) (zr_arr hK hP 0 1 .long rfl rfl rfl rfl) dX0_sizeOf_16 ?_
  refine lv_if_eq (tgt := 30) hx hb dX0_sizeOf_19 (by decide) (fun _ => ?_) (fun z => absurd (by decide) z)
  refine lv_aload_n hx hb dX0_sizeOf_30 rfl (lv_at hl 0 rfl) ?_
  refine va_instNo hx hb hown (hts _ q588) (hK.2.1.2.2.2.2.2.2 _ (List.mem_of_getElem? (i := 11) rfl)) (zr_arr hK hP 0 1 .long rfl rfl rfl rfl) dX0_sizeOf_31 ?_
  refine lv_if_eq (tgt := 47) hx hb dX0_sizeOf_34 (by decide) (fun _ => ?_) (fun z => absurd (by decide) z)
  refine lv_aload_n hx hb dX0_sizeOf_47 rfl (lv_at hl 0 rfl) ?_
  refine va_castE hx hb hown (hts _ q589) (zr_arr hK hP 0 1 .long rfl rfl rfl rfl) dX0_sizeOf_48 ?_
  refine va_alen hx hb hK.1 hP 0 1 rfl rfl (v := nI nn) rfl dX0_sizeOf_51 ?_
  exact zr_oi hx hb hr hlocks dX0_sizeOf_52 rfl
set_option maxHeartbeats 4000000 in
set_option maxRecDepth 100000 in
theorem mt_xk_num3 (l : Launch) (G : zG) (ra : Nat) (nn : Nat) (rf : Nat → Int64) (k : Nat) (hnn : nn ≤ 60) (hk : k < nn) : Met l yX0_number (ws_ yX0_number cX0_number 3 (some .long)) (zR 1 0 0) (zPo G [.ref ra, .int (nI k)] (rw3_ G ra nn rf)) (k2_QcV (.long (rf k))) 0 0 (fun _ => False) := by
  refine zr_entO (by decide) (Nat.le_of_ble_eq_true rfl) ?_
  intro p e s m below meth c ⟨hx, hb, hr, hml, hown, hts, hlocks, hnm⟩ ls hl hP hK hE
  have hown : s.vm.findClass RX0 = some m.cls := hown
  have hl : lv_has ls 3 [(0, .ref ra), (1, .int (nI k))] := hl
  refine lv_aload_n hx hb dX0_number_0 rfl (lv_at hl 0 rfl) ?_
  refine va_instNo hx hb hown (hts _ q586) (hK.2.1.2.2.2.2.2.2 _ (List.mem_of_getElem? (i := 9) rfl)) (zr_arr hK hP 0 1 .long rfl rfl rfl rfl) dX0_number_1 ?_
  refine lv_if_eq (tgt := 17) hx hb dX0_number_4 (by decide) (fun _ => ?_) (fun z => absurd (by decide) z)
  refine lv_aload_n hx hb dX0_number_17 rfl (lv_at hl 0 rfl) ?_
  refine va_instNo hx hb hown (hts _ q587) (hK.2.1.2.2.2.2.2.2 _ (List.mem_of_getElem? (i := 10) rfl)) (zr_arr hK hP 0 1 .long rfl rfl rfl rfl) dX0_number_18 ?_
  refine lv_if_eq (tgt := 34) hx hb dX0_number_21 (by decide) (fun _ => ?_) (fun z => absurd (by decide) z)
  refine lv_aload_n hx hb dX0_number_34 rfl (lv_at hl 0 rfl) ?_
  refine va_instNo hx hb hown (hts _ q588) (hK.2.1.2.2.2.2.2.2 _ (List.mem_of_getElem? (i := 11) rfl)) (zr_arr hK hP 0 1 .long rfl rfl rfl rfl) dX0_number_35 ?_
  refine lv_if_eq (tgt := 53) hx hb dX0_number_38 (by decide) (fun _ => ?_) (fun z => absurd (by decide) z)
  refine lv_aload_n hx hb dX0_number_53 rfl (lv_at hl 0 rfl) ?_
  refine va_castE hx hb hown (hts _ q589) (zr_arr hK hP 0 1 .long rfl rfl rfl rfl) dX0_number_54 ?_
  refine lv_iload_n hx hb dX0_number_57 rfl (lv_at hl 1 rfl) ?_
  refine zr_lald k (v := rf k) hx hb hK hP 0 rfl rfl (by omega) rfl (by omega) rfl dX0_number_58 ?_
  exact zr_ol hx hb hr hlocks dX0_number_59 rfl
def xk_put3 (rf : Nat → Int64) (k : Nat) (x : Int64) : (Nat → Int64) :=
  (vp_updL rf k x)
set_option maxHeartbeats 4000000 in
set_option maxRecDepth 100000 in
theorem mt_xk_put3 (l : Launch) (G : zG) (ra : Nat) (nn : Nat) (rf : Nat → Int64) (k : Nat) (x : Int64) (hnn : nn ≤ 60) (hk : k < nn) (sz : Nat) : Met l yX0_put (ws_ yX0_put cX0_put 7 none) (zR 1 0 0) (zPm G sz [.ref ra, .int (nI k), .long x] (rw3_ G ra nn rf)) (zQm G (True) none (rw3_ G ra nn (xk_put3 rf k x)) (va_A (rw3_ G ra nn rf) sz)) 0 0 (va_A (rw3_ G ra nn rf) sz) := by
  refine zr_entM (by decide) (Nat.le_of_ble_eq_true rfl) ?_
  intro p e s m below meth c ⟨hx, hb, hr, hml, hown, hts, hlocks, hnm⟩ ls hl hP hK A hE hA hD hS
  have hown : s.vm.findClass RX0 = some m.cls := hown
  have hl : lv_has ls 7 [(0, .ref ra), (1, .int (nI k)), (2, .long x)] := hl
  obtain ⟨H, hH⟩ : ∃ H, H = s.heap := ⟨_, rfl⟩
  obtain ⟨locs, hlo⟩ : ∃ L : List Loc, L = [] := ⟨_, rfl⟩
  rw [← hH] at hP
  have hS : va_S A s.heap H locs := by rw [hH, hlo]; exact va_S.rf
  have hgo : W p l e (zR 1 0 0) s m ([.ref ra, .int (nI k), .long x] : List Value).toArray below meth c H locs 0 0 (MQ below (zQm G (True) none (rw3_ G ra nn (xk_put3 rf k x)) A) ([.ref ra, .int (nI k), .long x] : List Value).toArray s 0 0 A) (F0 m 0 ls []) := ?_
  · rw [hH, hlo] at hgo; exact hgo
  clear hH hlo
  refine lv_aload_n hx hb dX0_put_0 rfl (lv_at hl 0 rfl) ?_
  refine va_instNo hx hb hown (hts _ q586) (hK.2.1.2.2.2.2.2.2 _ (List.mem_of_getElem? (i := 9) rfl)) (zr_arr hK hP 0 1 .long rfl rfl rfl rfl) dX0_put_1 ?_
  refine lv_if_eq (tgt := 23) hx hb dX0_put_4 (by decide) (fun _ => ?_) (fun z => absurd (by decide) z)
  refine lv_aload_n hx hb dX0_put_23 rfl (lv_at hl 0 rfl) ?_
  refine va_instNo hx hb hown (hts _ q587) (hK.2.1.2.2.2.2.2.2 _ (List.mem_of_getElem? (i := 10) rfl)) (zr_arr hK hP 0 1 .long rfl rfl rfl rfl) dX0_put_24 ?_
  refine lv_if_eq (tgt := 46) hx hb dX0_put_27 (by decide) (fun _ => ?_) (fun z => absurd (by decide) z)
  refine lv_aload_n hx hb dX0_put_46 rfl (lv_at hl 0 rfl) ?_
  refine va_instNo hx hb hown (hts _ q588) (hK.2.1.2.2.2.2.2.2 _ (List.mem_of_getElem? (i := 11) rfl)) (zr_arr hK hP 0 1 .long rfl rfl rfl rfl) dX0_put_47 ?_
  refine lv_if_eq (tgt := 68) hx hb dX0_put_50 (by decide) (fun _ => ?_) (fun z => absurd (by decide) z)
  refine lv_aload_n hx hb dX0_put_68 rfl (lv_at hl 0 rfl) ?_
  refine va_castE hx hb hown (hts _ q589) (zr_arr hK hP 0 1 .long rfl rfl rfl rfl) dX0_put_69 ?_
  refine lv_iload_n hx hb dX0_put_72 rfl (lv_at hl 1 rfl) ?_
  refine lv_lload_n hx hb dX0_put_73 rfl (lv_at hl 2 rfl) ?_
  refine zr_last k (ws' := (rw3_ G ra nn (vp_updL rf k x))) hx hb hK hP hD hS 0 rfl rfl (by omega) rfl (by omega) rfl dX0_put_74 (fun H locs hP hD hS => ?_)
  have e_ : xk_put3 rf k x = vp_updL rf k x := by rw [xk_put3]
  exact zr_mv hx hb hr hlocks hP hD hS dX0_put_75 rfl (by rw [e_]) trivial
set_option maxHeartbeats 4000000 in
set_option maxRecDepth 100000 in
theorem mt_xk_numO3 (l : Launch) (hlt : l.stackTraces = false) (G : zG) (ra : Nat) (nn : Nat) (rf : Nat → Int64) (i : Int32) (hnn : nn ≤ 60) (ho : ¬ vp_in i nn) (sz : Nat) : vx_Met l yX0_number (ws_ yX0_number cX0_number 3 (some .long)) (zR 165 3 222) (zPm G sz [.ref ra, .int i] (rw3_ G ra nn rf)) zNoQ (zXt G "java/lang/ArrayIndexOutOfBoundsException" (rw3_ G ra nn rf) (va_A (rw3_ G ra nn rf) sz)) 3 222 (va_A (rw3_ G ra nn rf) sz) := by
  refine zr_entT (by decide) (Nat.le_of_ble_eq_true rfl) ?_
  intro p e s m below meth c ⟨hx, hb, hr, hml, hown, hts, hlocks, hnm⟩ hout ls hl hP hK A hE hA hD hS
  have hown : s.vm.findClass RX0 = some m.cls := hown
  have hl : lv_has ls 3 [(0, .ref ra), (1, .int i)] := hl
  obtain ⟨H, hH⟩ : ∃ H, H = s.heap := ⟨_, rfl⟩
  obtain ⟨locs, hlo⟩ : ∃ L : List Loc, L = [] := ⟨_, rfl⟩
  rw [← hH] at hP
  have hS : va_S A s.heap H locs := by rw [hH, hlo]; exact va_S.rf
  have hgo : W p l e (zR 165 3 222) s m ([.ref ra, .int i] : List Value).toArray below meth c H locs 0 0 (vx_MQ below zNoQ (zXt G "java/lang/ArrayIndexOutOfBoundsException" (rw3_ G ra nn rf) A) ([.ref ra, .int i] : List Value).toArray s 3 222 A) (F0 m 0 ls []) := ?_
  · rw [hH, hlo] at hgo; exact hgo
  clear hH hlo
  refine lv_aload_n hx hb dX0_number_0 rfl (lv_at hl 0 rfl) ?_
  refine va_instNo hx hb hown (hts _ q586) (hK.2.1.2.2.2.2.2.2 _ (List.mem_of_getElem? (i := 9) rfl)) (zr_arr hK hP 0 1 .long rfl rfl rfl rfl) dX0_number_1 ?_
  refine lv_if_eq (tgt := 17) hx hb dX0_number_4 (by decide) (fun _ => ?_) (fun z => absurd (by decide) z)
  refine lv_aload_n hx hb dX0_number_17 rfl (lv_at hl 0 rfl) ?_
  refine va_instNo hx hb hown (hts _ q587) (hK.2.1.2.2.2.2.2.2 _ (List.mem_of_getElem? (i := 10) rfl)) (zr_arr hK hP 0 1 .long rfl rfl rfl rfl) dX0_number_18 ?_
  refine lv_if_eq (tgt := 34) hx hb dX0_number_21 (by decide) (fun _ => ?_) (fun z => absurd (by decide) z)
  refine lv_aload_n hx hb dX0_number_34 rfl (lv_at hl 0 rfl) ?_
  refine va_instNo hx hb hown (hts _ q588) (hK.2.1.2.2.2.2.2.2 _ (List.mem_of_getElem? (i := 11) rfl)) (zr_arr hK hP 0 1 .long rfl rfl rfl rfl) dX0_number_35 ?_
  refine lv_if_eq (tgt := 53) hx hb dX0_number_38 (by decide) (fun _ => ?_) (fun z => absurd (by decide) z)
  refine lv_aload_n hx hb dX0_number_53 rfl (lv_at hl 0 rfl) ?_
  refine va_castE hx hb hown (hts _ q589) (zr_arr hK hP 0 1 .long rfl rfl rfl rfl) dX0_number_54 ?_
  refine lv_iload_n hx hb dX0_number_57 rfl (lv_at hl 1 rfl) ?_
  refine vx_laldZ hx hb hK.1 hP 0 1 rfl rfl ho dX0_number_58 (fun tx htx => ?_)
  refine zr_noteA (ws := (rw3_ G ra nn rf)) hx hlt hts hK hE hP hS (hl.1.trans hml.symm) (by omega) htx (Nat.le_of_ble_eq_true rfl) (Nat.le_of_ble_eq_true rfl) (Nat.le_of_ble_eq_true rfl) (Nat.le_of_ble_eq_true rfl) hlocks (fun q9 ce H hce hcv hcl hP hS _ => ?_)
  exact zr_tend hout hlocks hce hcv hcl hP hD hS rfl
set_option maxHeartbeats 4000000 in
set_option maxRecDepth 100000 in
theorem mt_xk_putO3 (l : Launch) (hlt : l.stackTraces = false) (G : zG) (ra : Nat) (nn : Nat) (rf : Nat → Int64) (i : Int32) (x : Int64) (hnn : nn ≤ 60) (ho : ¬ vp_in i nn) (sz : Nat) : vx_Met l yX0_put (ws_ yX0_put cX0_put 7 none) (zR 165 3 222) (zPm G sz [.ref ra, .int i, .long x] (rw3_ G ra nn rf)) zNoQ (zXt G "java/lang/ArrayIndexOutOfBoundsException" (rw3_ G ra nn rf) (va_A (rw3_ G ra nn rf) sz)) 3 222 (va_A (rw3_ G ra nn rf) sz) := by
  refine zr_entT (by decide) (Nat.le_of_ble_eq_true rfl) ?_
  intro p e s m below meth c ⟨hx, hb, hr, hml, hown, hts, hlocks, hnm⟩ hout ls hl hP hK A hE hA hD hS
  have hown : s.vm.findClass RX0 = some m.cls := hown
  have hl : lv_has ls 7 [(0, .ref ra), (1, .int i), (2, .long x)] := hl
  obtain ⟨H, hH⟩ : ∃ H, H = s.heap := ⟨_, rfl⟩
  obtain ⟨locs, hlo⟩ : ∃ L : List Loc, L = [] := ⟨_, rfl⟩
  rw [← hH] at hP
  have hS : va_S A s.heap H locs := by rw [hH, hlo]; exact va_S.rf
  have hgo : W p l e (zR 165 3 222) s m ([.ref ra, .int i, .long x] : List Value).toArray below meth c H locs 0 0 (vx_MQ below zNoQ (zXt G "java/lang/ArrayIndexOutOfBoundsException" (rw3_ G ra nn rf) A) ([.ref ra, .int i, .long x] : List Value).toArray s 3 222 A) (F0 m 0 ls []) := ?_
  · rw [hH, hlo] at hgo; exact hgo
  clear hH hlo
  refine lv_aload_n hx hb dX0_put_0 rfl (lv_at hl 0 rfl) ?_
  refine va_instNo hx hb hown (hts _ q586) (hK.2.1.2.2.2.2.2.2 _ (List.mem_of_getElem? (i := 9) rfl)) (zr_arr hK hP 0 1 .long rfl rfl rfl rfl) dX0_put_1 ?_
  refine lv_if_eq (tgt := 23) hx hb dX0_put_4 (by decide) (fun _ => ?_) (fun z => absurd (by decide) z)
  refine lv_aload_n hx hb dX0_put_23 rfl (lv_at hl 0 rfl) ?_
  refine va_instNo hx hb hown (hts _ q587) (hK.2.1.2.2.2.2.2.2 _ (List.mem_of_getElem? (i := 10) rfl)) (zr_arr hK hP 0 1 .long rfl rfl rfl rfl) dX0_put_24 ?_
  refine lv_if_eq (tgt := 46) hx hb dX0_put_27 (by decide) (fun _ => ?_) (fun z => absurd (by decide) z)
  refine lv_aload_n hx hb dX0_put_46 rfl (lv_at hl 0 rfl) ?_
  refine va_instNo hx hb hown (hts _ q588) (hK.2.1.2.2.2.2.2.2 _ (List.mem_of_getElem? (i := 11) rfl)) (zr_arr hK hP 0 1 .long rfl rfl rfl rfl) dX0_put_47 ?_
  refine lv_if_eq (tgt := 68) hx hb dX0_put_50 (by decide) (fun _ => ?_) (fun z => absurd (by decide) z)
  refine lv_aload_n hx hb dX0_put_68 rfl (lv_at hl 0 rfl) ?_
  refine va_castE hx hb hown (hts _ q589) (zr_arr hK hP 0 1 .long rfl rfl rfl rfl) dX0_put_69 ?_
  refine lv_iload_n hx hb dX0_put_72 rfl (lv_at hl 1 rfl) ?_
  refine lv_lload_n hx hb dX0_put_73 rfl (lv_at hl 2 rfl) ?_
  refine vx_lastZ hx hb hK.1 hP 0 1 rfl rfl ho dX0_put_74 (fun tx htx => ?_)
  refine zr_noteA (ws := (rw3_ G ra nn rf)) hx hlt hts hK hE hP hS (hl.1.trans hml.symm) (by omega) htx (Nat.le_of_ble_eq_true rfl) (Nat.le_of_ble_eq_true rfl) (Nat.le_of_ble_eq_true rfl) (Nat.le_of_ble_eq_true rfl) hlocks (fun q9 ce H hce hcv hcl hP hS _ => ?_)
  exact zr_tend hout hlocks hce hcv hcl hP hD hS rfl
set_option maxHeartbeats 4000000 in
set_option maxRecDepth 100000 in
theorem mt_xk_rowO3 (l : Launch) (hlt : l.stackTraces = false) (G : zG)  (many : Int32) (hm : many < 0) (sz : Nat) : vx_Met l yX0_row (ws_ yX0_row cX0_row 2 (some (.object "java/lang/Object"))) (zR 165 3 222) (zPm G sz [.int 3, .int many] []) zNoQ (zXt G "java/lang/NegativeArraySizeException" [] (va_A [] sz)) 3 222 (va_A [] sz) := by
  refine zr_entT (by decide) (Nat.le_of_ble_eq_true rfl) ?_
  intro p e s m below meth c ⟨hx, hb, hr, hml, hown, hts, hlocks, hnm⟩ hout ls hl hP hK A hE hA hD hS
  have hown : s.vm.findClass RX0 = some m.cls := hown
  have hl : lv_has ls 2 [(0, .int 3), (1, .int many)] := hl
  obtain ⟨H, hH⟩ : ∃ H, H = s.heap := ⟨_, rfl⟩
  obtain ⟨locs, hlo⟩ : ∃ L : List Loc, L = [] := ⟨_, rfl⟩
  rw [← hH] at hP
  have hS : va_S A s.heap H locs := by rw [hH, hlo]; exact va_S.rf
  have hgo : W p l e (zR 165 3 222) s m ([.int 3, .int many] : List Value).toArray below meth c H locs 0 0 (vx_MQ below zNoQ (zXt G "java/lang/NegativeArraySizeException" [] A) ([.int 3, .int many] : List Value).toArray s 3 222 A) (F0 m 0 ls []) := ?_
  · rw [hH, hlo] at hgo; exact hgo
  clear hH hlo
  refine lv_iload_n hx hb dX0_row_0 rfl (lv_at hl 0 rfl) ?_
  refine lv_if_ne (tgt := 10) hx hb dX0_row_1 (by decide) (fun _ => ?_) (fun z => absurd z (by decide))
  refine lv_iload_n hx hb dX0_row_10 rfl (lv_at hl 0 rfl) ?_
  refine lv_iconst (v := 1) hx hb dX0_row_11 (by decide) ?_
  refine lv_icmp_ne (tgt := 21) hx hb dX0_row_12 (by decide) (fun _ => ?_) (fun z => absurd z (by decide))
  refine lv_iload_n hx hb dX0_row_21 rfl (lv_at hl 0 rfl) ?_
  refine lv_iconst (v := 2) hx hb dX0_row_22 (by decide) ?_
  refine lv_icmp_ne (tgt := 32) hx hb dX0_row_23 (by decide) (fun _ => ?_) (fun z => absurd z (by decide))
  refine lv_iload_n hx hb dX0_row_32 rfl (lv_at hl 1 rfl) ?_
  refine vx_newarrayZ hx hb hm dX0_row_33 (fun tx htx => ?_)
  refine zr_noteN (ws := []) hx hlt hts hK hE hP hS (hl.1.trans hml.symm) hm htx (Nat.le_of_ble_eq_true rfl) (Nat.le_of_ble_eq_true rfl) (Nat.le_of_ble_eq_true rfl) (Nat.le_of_ble_eq_true rfl) hlocks (fun q9 ce H hce hcv hcl hP hS _ => ?_)
  exact zr_tend hout hlocks hce hcv hcl hP hD hS rfl
