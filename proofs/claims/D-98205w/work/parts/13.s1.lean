theorem hd_J8_checkIndex : True ∧ yJ8_checkIndex.cls ≠ "java/lang/invoke/MethodHandle" ∧ yJ8_checkIndex.cls ≠ "java/lang/invoke/VarHandle" ∧ (parseMethodDescriptor yJ8_checkIndex.desc).map (fun d => d.parameters.length) = some 3 := by decide +kernel
set_option maxHeartbeats 4000000 in
set_option maxRecDepth 100000 in
theorem mt_jf_ckIdxR (l : Launch) (fz : Nat) (kk : Nat) (nn : Nat) (hkn : kk < nn) (hnn : nn < 2 ^ 31) : Met l yJ8_checkIndex (ws_ yJ8_checkIndex cJ8_checkIndex 3 (some .int)) (zR 1 0 0) (zPp [.int (nI kk), .int (nI nn), .ref fz]) (k2_QcV (.int (nI kk))) 0 0 (fun _ => False) := by
  refine zr_entP (by decide) (Nat.le_of_ble_eq_true rfl) ?_
  intro p e s m below meth c ⟨hx, hb, hr, hml, hown, hts, hlocks, hnm⟩ ls hl
  have hown : s.vm.findClass RJ8 = some m.cls := hown
  have hl : lv_has ls 3 [(0, .int (nI kk)), (1, .int (nI nn)), (2, .ref fz)] := hl
  refine lv_iload_n hx hb dJ8_checkIndex_0 rfl (lv_at hl 0 rfl) ?_
  refine lv_if_lt (tgt := 9) hx hb dJ8_checkIndex_1 (by decide) (fun z => absurd z (nI_pos (by omega))) (fun _ => ?_)
  refine lv_iload_n hx hb dJ8_checkIndex_4 rfl (lv_at hl 0 rfl) ?_
  refine lv_iload_n hx hb dJ8_checkIndex_5 rfl (lv_at hl 1 rfl) ?_
  refine zr_lt kk nn (by omega) (by omega) (tgt := 16) hx hb dJ8_checkIndex_6 (by decide) (fun _ => ?_) (fun z => absurd hkn z)
  refine lv_iload_n hx hb dJ8_checkIndex_16 rfl (lv_at hl 0 rfl) ?_
  exact zr_oi hx hb hr hlocks dJ8_checkIndex_17 rfl
set_option maxHeartbeats 4000000 in
set_option maxRecDepth 100000 in
theorem mt_jf_ckIdxN (l : Launch) (kk : Nat) (nn : Nat) (hkn : kk < nn) (hnn : nn < 2 ^ 31) : Met l yJ8_checkIndex (ws_ yJ8_checkIndex cJ8_checkIndex 3 (some .int)) (zR 1 0 0) (zPp [.int (nI kk), .int (nI nn), .null]) (k2_QcV (.int (nI kk))) 0 0 (fun _ => False) := by
  refine zr_entP (by decide) (Nat.le_of_ble_eq_true rfl) ?_
  intro p e s m below meth c ⟨hx, hb, hr, hml, hown, hts, hlocks, hnm⟩ ls hl
  have hown : s.vm.findClass RJ8 = some m.cls := hown
  have hl : lv_has ls 3 [(0, .int (nI kk)), (1, .int (nI nn)), (2, .null)] := hl
  refine lv_iload_n hx hb dJ8_checkIndex_0 rfl (lv_at hl 0 rfl) ?_
  refine lv_if_lt (tgt := 9) hx hb dJ8_checkIndex_1 (by decide) (fun z => absurd z (nI_pos (by omega))) (fun _ => ?_)
  refine lv_iload_n hx hb dJ8_checkIndex_4 rfl (lv_at hl 0 rfl) ?_
  refine lv_iload_n hx hb dJ8_checkIndex_5 rfl (lv_at hl 1 rfl) ?_
  refine zr_lt kk nn (by omega) (by omega) (tgt := 16) hx hb dJ8_checkIndex_6 (by decide) (fun _ => ?_) (fun z => absurd hkn z)
  refine lv_iload_n hx hb dJ8_checkIndex_16 rfl (lv_at hl 0 rfl) ?_
  exact zr_oi hx hb hr hlocks dJ8_checkIndex_17 rfl
theorem hd_J4_length : yJ4_length.cls = "java/lang/String" ∧ yJ4_length.cls ≠ "java/lang/invoke/MethodHandle" ∧ yJ4_length.cls ≠ "java/lang/invoke/VarHandle" ∧ (parseMethodDescriptor yJ4_length.desc).map (fun d => d.parameters.length) = some 0 := by decide +kernel
theorem hd_J4_coder : yJ4_coder.cls = "java/lang/String" ∧ yJ4_coder.cls ≠ "java/lang/invoke/MethodHandle" ∧ yJ4_coder.cls ≠ "java/lang/invoke/VarHandle" ∧ (parseMethodDescriptor yJ4_coder.desc).map (fun d => d.parameters.length) = some 0 := by decide +kernel
theorem hd_J4_charAt : yJ4_charAt.cls = "java/lang/String" ∧ yJ4_charAt.cls ≠ "java/lang/invoke/MethodHandle" ∧ yJ4_charAt.cls ≠ "java/lang/invoke/VarHandle" ∧ (parseMethodDescriptor yJ4_charAt.desc).map (fun d => d.parameters.length) = some 1 := by decide +kernel
theorem hd_J4_isLatin1 : yJ4_isLatin1.cls = "java/lang/String" ∧ yJ4_isLatin1.cls ≠ "java/lang/invoke/MethodHandle" ∧ yJ4_isLatin1.cls ≠ "java/lang/invoke/VarHandle" ∧ (parseMethodDescriptor yJ4_isLatin1.desc).map (fun d => d.parameters.length) = some 0 := by decide +kernel
theorem hd_J4_checkIndex : True ∧ yJ4_checkIndex.cls ≠ "java/lang/invoke/MethodHandle" ∧ yJ4_checkIndex.cls ≠ "java/lang/invoke/VarHandle" ∧ (parseMethodDescriptor yJ4_checkIndex.desc).map (fun d => d.parameters.length) = some 2 := by decide +kernel
theorem hd_J7_charAt : True ∧ yJ7_charAt.cls ≠ "java/lang/invoke/MethodHandle" ∧ yJ7_charAt.cls ≠ "java/lang/invoke/VarHandle" ∧ (parseMethodDescriptor yJ7_charAt.desc).map (fun d => d.parameters.length) = some 2 := by decide +kernel
def zch (i k : Nat) : Int32 := (zByt.getD i []).getD k 0
theorem zlen_ok : ∀ i, i < 23 → zLen.getD i 0 < 2 ^ 31 ∧ ∀ k, k < zLen.getD i 0 → 0 ≤ zch i k ∧ zch i k < 128 := by decide +kernel
theorem zch_c {x : Int32} (h0 : 0 ≤ x) (h1 : x < 128) : ((x &&& 255).toUInt32 % 65536).toInt32 = x ∧ narrow .char (.int x) = .int x := by
  obtain ⟨j, hj, rfl⟩ := nI_of (Int32.not_lt.mpr h0)
  have h2 : j < 128 := (nI_ltI hj (by decide)).mp h1
  have key : ∀ j, j < 128 → ((nI j &&& 255).toUInt32 % 65536).toInt32 = nI j ∧ narrow .char (.int (nI j)) = .int (nI j) := fun j hj => by
    have := pk_charN (q := j) (by omega)
    refine ⟨?_, this.1⟩
    revert j
    decide +kernel
  exact key j h2
set_option maxHeartbeats 4000000 in
set_option maxRecDepth 100000 in
theorem mt_jf_coder (l : Launch) (G : zG) (i : Nat) (hi : i < 23) : Met l yJ4_coder (ws_ yJ4_coder cJ4_coder 1 (some .byte)) (zR 1 0 0) (zPo G [.ref (zK G i)] []) (k2_QcV (.int 0)) 0 0 (fun _ => False) := by
  refine zr_entO (by decide) (Nat.le_of_ble_eq_true rfl) ?_
  intro p e s m below meth c ⟨hx, hb, hr, hml, hown, hts, hlocks, hnm⟩ ls hl hP hK hE
  have hown : s.vm.findClass RJ4 = some m.cls := hown
  have hS : va_S (fun _ => False) s.heap s.heap [] := va_S.rf
  have hl : lv_has ls 1 [(0, .ref (zK G i))] := hl
  refine va_gets hx hb hE.2.1 hS hown (hts _ q697) (fun _ h => h) dJ4_coder_0 ?_
  refine lv_if_eq (tgt := 13) hx hb dJ4_coder_3 (by decide) (fun z => absurd z (by decide)) (fun _ => ?_)
  refine lv_aload_n hx hb dJ4_coder_6 rfl (lv_at hl 0 rfl) ?_
  refine vk_getf hx hb (hE.1.1 i hi).2.1 hS hown (hts _ q2163) (fun _ h => h) dJ4_coder_7 ?_
  refine lv_goto (tgt := 14) hx hb dJ4_coder_10 (by decide) ?_
  exact zr_oz hx hb hr hlocks dJ4_coder_14 rfl rfl
set_option maxHeartbeats 4000000 in
set_option maxRecDepth 100000 in
theorem mt_jf_isLatin1 (l : Launch) (G : zG) (i : Nat) (hi : i < 23) : Met l yJ4_isLatin1 (ws_ yJ4_isLatin1 cJ4_isLatin1 1 (some .boolean)) (zR 1 0 0) (zPo G [.ref (zK G i)] []) (k2_QcV (.int 1)) 0 0 (fun _ => False) := by
  refine zr_entO (by decide) (Nat.le_of_ble_eq_true rfl) ?_
  intro p e s m below meth c ⟨hx, hb, hr, hml, hown, hts, hlocks, hnm⟩ ls hl hP hK hE
  have hown : s.vm.findClass RJ4 = some m.cls := hown
  have hS : va_S (fun _ => False) s.heap s.heap [] := va_S.rf
  have hl : lv_has ls 1 [(0, .ref (zK G i))] := hl
  refine va_gets hx hb hE.2.1 hS hown (hts _ q697) (fun _ h => h) dJ4_isLatin1_0 ?_
  refine lv_if_eq (tgt := 17) hx hb dJ4_isLatin1_3 (by decide) (fun z => absurd z (by decide)) (fun _ => ?_)
  refine lv_aload_n hx hb dJ4_isLatin1_6 rfl (lv_at hl 0 rfl) ?_
  refine vk_getf hx hb (hE.1.1 i hi).2.1 hS hown (hts _ q2163) (fun _ h => h) dJ4_isLatin1_7 ?_
  refine lv_if_ne (tgt := 17) hx hb dJ4_isLatin1_10 (by decide) (fun z => absurd rfl z) (fun _ => ?_)
  refine lv_iconst (v := 1) hx hb dJ4_isLatin1_13 (by decide) ?_
  refine lv_goto (tgt := 18) hx hb dJ4_isLatin1_14 (by decide) ?_
  exact zr_oz hx hb hr hlocks dJ4_isLatin1_18 rfl rfl
set_option maxHeartbeats 4000000 in
set_option maxRecDepth 100000 in
theorem mt_jf_length (l : Launch) (G : zG) (i : Nat) (hi : i < 23) : Met l yJ4_length (ws_ yJ4_length cJ4_length 1 (some .int)) (zR 2 0 0) (zPo G [.ref (zK G i)] []) (k2_QcV (.int (nI (zLen.getD i 0)))) 0 0 (fun _ => False) := by
  refine zr_entO (by decide) (Nat.le_of_ble_eq_true rfl) ?_
  intro p e s m below meth c ⟨hx, hb, hr, hml, hown, hts, hlocks, hnm⟩ ls hl hP hK hE
  have hown : s.vm.findClass RJ4 = some m.cls := hown
  have hS : va_S (fun _ => False) s.heap s.heap [] := va_S.rf
  have hl : lv_has ls 1 [(0, .ref (zK G i))] := hl
  refine lv_aload_n hx hb dJ4_length_0 rfl (lv_at hl 0 rfl) ?_
  refine vk_getf hx hb (hE.1.1 i hi).2.2.1 hS hown (hts _ q2162) (fun _ h => h) dJ4_length_1 ?_
  refine va_tlen (v := nI (zLen.getD i 0)) hx hb (hE.1.1 i hi).2.2.2 hS rfl dJ4_length_4 ?_
  refine lv_aload_n hx hb dJ4_length_5 rfl (lv_at hl 0 rfl) ?_
  refine zr_obStr ⟨hx, hb, hml, hown, hts⟩ i (mt_jf_coder l G i hi) (cwV 0 hts (lw_V q693 q694 q695 q147 q696) rfl rfl rfl hd_J4_coder ⟨(Nat.le_of_ble_eq_true rfl), (Nat.le_of_ble_eq_true rfl)⟩) hK hE hi rfl hl.1 rfl (Nat.le_of_ble_eq_true rfl) dJ4_length_6 ⟨Nat.le_refl _, Nat.le_refl _⟩ ?_
  refine lv_ishr hx hb dJ4_length_9 ?_
  exact zr_oi hx hb hr hlocks dJ4_length_10 (congrArg Value.int (sc_shr0 (zlen_ok i hi).1).symm)
set_option maxHeartbeats 4000000 in
set_option maxRecDepth 100000 in
theorem mt_jf_checkIndex (l : Launch) (G : zG) (kk nn : Nat) (hkn : kk < nn) (hnn : nn < 2 ^ 31) : Met l yJ4_checkIndex (ws_ yJ4_checkIndex cJ4_checkIndex 2 none) (zR 2 0 0) (zPo G [.int (nI kk), .int (nI nn)] []) zQn 0 0 (fun _ => False) := by
  refine zr_entN (by decide) (Nat.le_of_ble_eq_true rfl) ?_
  intro p e s m below meth c ⟨hx, hb, hr, hml, hown, hts, hlocks, hnm⟩ ls hl hP hK hE
  have hown : s.vm.findClass RJ4 = some m.cls := hown
  have hS : va_S (fun _ => False) s.heap s.heap [] := va_S.rf
  have hl : lv_has ls 2 [(0, .int (nI kk)), (1, .int (nI nn))] := hl
  refine lv_iload_n hx hb dJ4_checkIndex_0 rfl (lv_at hl 0 rfl) ?_
  refine lv_iload_n hx hb dJ4_checkIndex_1 rfl (lv_at hl 1 rfl) ?_
  rcases hE.2.2.1 with hz | ⟨t, hz⟩
  · refine va_gets hx hb hz hS hown (hts _ q713) (fun _ h => h) dJ4_checkIndex_2 ?_
    refine zr_puS ⟨hx, hb, hml, hown, hts⟩ (mt_jf_ckIdxN l kk nn hkn hnn) (va_cwS 3 hts (lw_S q715 q716 q153 q717) rfl rfl rfl hd_J8_checkIndex.2 ⟨(Nat.le_of_ble_eq_true rfl), (Nat.le_of_ble_eq_true rfl)⟩) rfl hl.1 rfl (Nat.le_of_ble_eq_true rfl) dJ4_checkIndex_5 ⟨Nat.le_refl _, Nat.le_refl _⟩ ?_
    refine lv_pop hx hb dJ4_checkIndex_8 rfl ?_
    exact W.vret hx hb hr (fun t ht _ => ⟨rfl, ht⟩) (fun q h => by cases h) dJ4_checkIndex_9
  · refine va_gets hx hb hz hS hown (hts _ q713) (fun _ h => h) dJ4_checkIndex_2 ?_
    refine zr_puS ⟨hx, hb, hml, hown, hts⟩ (mt_jf_ckIdxR l t kk nn hkn hnn) (va_cwS 3 hts (lw_S q715 q716 q153 q717) rfl rfl rfl hd_J8_checkIndex.2 ⟨(Nat.le_of_ble_eq_true rfl), (Nat.le_of_ble_eq_true rfl)⟩) rfl hl.1 rfl (Nat.le_of_ble_eq_true rfl) dJ4_checkIndex_5 ⟨Nat.le_refl _, Nat.le_refl _⟩ ?_
    refine lv_pop hx hb dJ4_checkIndex_8 rfl ?_
    exact W.vret hx hb hr (fun t ht _ => ⟨rfl, ht⟩) (fun q h => by cases h) dJ4_checkIndex_9
set_option maxHeartbeats 4000000 in
set_option maxRecDepth 100000 in
theorem mt_jf_charAtL (l : Launch) (G : zG) (i : Nat) (hi : i < 23) (kk : Nat) (hk : kk < zLen.getD i 0) : Met l yJ7_charAt (ws_ yJ7_charAt cJ7_charAt 2 (some .char)) (zR 3 0 0) (zPo G [.ref (zV G i), .int (nI kk)] []) (k2_QcV (.int (zch i kk))) 0 0 (fun _ => False) := by
  refine zr_entO (by decide) (Nat.le_of_ble_eq_true rfl) ?_
  intro p e s m below meth c ⟨hx, hb, hr, hml, hown, hts, hlocks, hnm⟩ ls hl hP hK hE
  have hown : s.vm.findClass RJ7 = some m.cls := hown
  have hS : va_S (fun _ => False) s.heap s.heap [] := va_S.rf
  have hl : lv_has ls 2 [(0, .ref (zV G i)), (1, .int (nI kk))] := hl
  have hlen := (zlen_ok i hi).1
  obtain ⟨hc0, hc1⟩ := (zlen_ok i hi).2 kk hk
  refine lv_iload_n hx hb dJ7_charAt_0 rfl (lv_at hl 1 rfl) ?_
  refine lv_aload_n hx hb dJ7_charAt_1 rfl (lv_at hl 0 rfl) ?_
  refine va_tlen (v := nI (zLen.getD i 0)) hx hb (hE.1.1 i hi).2.2.2 hS rfl dJ7_charAt_2 ?_
  refine zr_obSn ⟨hx, hb, hml, hown, hts⟩ (mt_jf_checkIndex l G kk (zLen.getD i 0) hk hlen) (va_cwS 2 hts (lw_S q710 q711 q147 q712) rfl rfl rfl hd_J4_checkIndex.2 ⟨(Nat.le_of_ble_eq_true rfl), (Nat.le_of_ble_eq_true rfl)⟩) hK hE rfl hl.1 rfl (Nat.le_of_ble_eq_true rfl) dJ7_charAt_3 ⟨Nat.le_refl _, Nat.le_refl _⟩ ?_
  refine lv_aload_n hx hb dJ7_charAt_6 rfl (lv_at hl 0 rfl) ?_
  refine lv_iload_n hx hb dJ7_charAt_7 rfl (lv_at hl 1 rfl) ?_
  refine va_tb (v := .int (zch i kk)) hx hb (hE.1.1 i hi).2.2.2 hS (vp_in_nI hk hlen) (by show Value.int ((zByt.getD i []).getD (nI kk).toNatClampNeg 0) = _; rw [nI_clamp (Nat.lt_trans hk hlen)]; rfl) dJ7_charAt_8 ?_
  refine lv_sipush (v := 255) hx hb dJ7_charAt_9 (by decide) ?_
  refine lv_iand hx hb dJ7_charAt_12 ?_
  refine lv_i2c (v := zch i kk) hx hb dJ7_charAt_13 (zch_c hc0 hc1).1 ?_
  exact zr_oz hx hb hr hlocks dJ7_charAt_14 (zch_c hc0 hc1).2 rfl
set_option maxHeartbeats 4000000 in
set_option maxRecDepth 100000 in
theorem mt_jf_charAt (l : Launch) (G : zG) (i : Nat) (hi : i < 23) (kk : Nat) (hk : kk < zLen.getD i 0) : Met l yJ4_charAt (ws_ yJ4_charAt cJ4_charAt 2 (some .char)) (zR 4 0 0) (zPo G [.ref (zK G i), .int (nI kk)] []) (k2_QcV (.int (zch i kk))) 0 0 (fun _ => False) := by
  refine zr_entO (by decide) (Nat.le_of_ble_eq_true rfl) ?_
  intro p e s m below meth c ⟨hx, hb, hr, hml, hown, hts, hlocks, hnm⟩ ls hl hP hK hE
  have hown : s.vm.findClass RJ4 = some m.cls := hown
  have hS : va_S (fun _ => False) s.heap s.heap [] := va_S.rf
  have hl : lv_has ls 2 [(0, .ref (zK G i)), (1, .int (nI kk))] := hl
  obtain ⟨hc0, hc1⟩ := (zlen_ok i hi).2 kk hk
  refine lv_aload_n hx hb dJ4_charAt_0 rfl (lv_at hl 0 rfl) ?_
  refine zr_obStr ⟨hx, hb, hml, hown, hts⟩ i (mt_jf_isLatin1 l G i hi) (cwV 0 hts (lw_V q703 q704 q705 q147 q706) rfl rfl rfl hd_J4_isLatin1 ⟨(Nat.le_of_ble_eq_true rfl), (Nat.le_of_ble_eq_true rfl)⟩) hK hE hi rfl hl.1 rfl (Nat.le_of_ble_eq_true rfl) dJ4_charAt_1 ⟨Nat.le_refl _, Nat.le_refl _⟩ ?_
  refine lv_if_eq (tgt := 16) hx hb dJ4_charAt_4 (by decide) (fun z => absurd z (by decide)) (fun _ => ?_)
  refine lv_aload_n hx hb dJ4_charAt_7 rfl (lv_at hl 0 rfl) ?_
  refine vk_getf hx hb (hE.1.1 i hi).2.2.1 hS hown (hts _ q2162) (fun _ h => h) dJ4_charAt_8 ?_
  refine lv_iload_n hx hb dJ4_charAt_11 rfl (lv_at hl 1 rfl) ?_
  refine zr_obS ⟨hx, hb, hml, hown, hts⟩ (mt_jf_charAtL l G i hi kk hk) (va_cwS 2 hts (lw_S q707 q708 q152 q709) rfl rfl rfl hd_J7_charAt.2 ⟨(Nat.le_of_ble_eq_true rfl), (Nat.le_of_ble_eq_true rfl)⟩) zP_nil hK hE rfl hl.1 rfl (Nat.le_of_ble_eq_true rfl) dJ4_charAt_12 ⟨Nat.le_refl _, Nat.le_refl _⟩ ?_
  exact zr_oz hx hb hr hlocks dJ4_charAt_15 (zch_c hc0 hc1).2 rfl
