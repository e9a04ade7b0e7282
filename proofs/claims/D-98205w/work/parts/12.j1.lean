def jf_bitCount (i_ : Int32) : Int32 :=
  zlet (((i_ - (((i_.toUInt32 >>> ((1 : Int32).toUInt32 &&& Int32.toUInt32 31)).toInt32) &&& 1431655765)) &&& 858993459) + ((((i_ - (((i_.toUInt32 >>> ((1 : Int32).toUInt32 &&& Int32.toUInt32 31)).toInt32) &&& 1431655765)).toUInt32 >>> ((2 : Int32).toUInt32 &&& Int32.toUInt32 31)).toInt32) &&& 858993459)) (fun v_1 =>
  zlet (((v_1 + ((v_1.toUInt32 >>> ((4 : Int32).toUInt32 &&& Int32.toUInt32 31)).toInt32)) &&& 252645135) + ((((v_1 + ((v_1.toUInt32 >>> ((4 : Int32).toUInt32 &&& Int32.toUInt32 31)).toInt32)) &&& 252645135).toUInt32 >>> ((8 : Int32).toUInt32 &&& Int32.toUInt32 31)).toInt32)) (fun v_2 =>
  ((v_2 + ((v_2.toUInt32 >>> ((16 : Int32).toUInt32 &&& Int32.toUInt32 31)).toInt32)) &&& 63)))
theorem hd_J10_bitCount : True ∧ yJ10_bitCount.cls ≠ "java/lang/invoke/MethodHandle" ∧ yJ10_bitCount.cls ≠ "java/lang/invoke/VarHandle" ∧ (parseMethodDescriptor yJ10_bitCount.desc).map (fun d => d.parameters.length) = some 1 := by decide +kernel
set_option maxHeartbeats 4000000 in
set_option maxRecDepth 100000 in
theorem mt_jf_bitCount (l : Launch) (i_ : Int32) : Met l yJ10_bitCount (ws_ yJ10_bitCount cJ10_bitCount 1 (some .int)) (zR 1 0 0) (zPp [.int i_]) (k2_QcV (.int (jf_bitCount i_))) 0 0 (fun _ => False) := by
  refine zr_entP (by decide) (Nat.le_of_ble_eq_true rfl) ?_
  intro p e s m below meth c ⟨hx, hb, hr, hml, hown, hts, hlocks, hnm⟩ ls hl
  have hown : s.vm.findClass RJ10 = some m.cls := hown
  have hl : lv_has ls 1 [(0, .int i_)] := hl
  refine lv_iload_n hx hb dJ10_bitCount_0 rfl (lv_at hl 0 rfl) ?_
  refine lv_iload_n hx hb dJ10_bitCount_1 rfl (lv_at hl 0 rfl) ?_
  refine lv_iconst (v := 1) hx hb dJ10_bitCount_2 (by decide) ?_
  refine lv_iushr hx hb dJ10_bitCount_3 rfl ?_
  refine lv_ldcw (v := 1431655765) hx hb hown (hts _ q856) dJ10_bitCount_4 ?_
  refine lv_iand hx hb dJ10_bitCount_7 ?_
  refine lv_isub hx hb dJ10_bitCount_8 ?_
  refine lv_istore_n (lv' := [(0, .int (i_ - (((i_.toUInt32 >>> ((1 : Int32).toUInt32 &&& Int32.toUInt32 31)).toInt32) &&& 1431655765)))]) hx hb dJ10_bitCount_9 rfl hl (by decide) rfl (fun ls hl => ?_)
  refine lv_iload_n hx hb dJ10_bitCount_10 rfl (lv_at hl 0 rfl) ?_
  refine lv_ldcw (v := 858993459) hx hb hown (hts _ q857) dJ10_bitCount_11 ?_
  refine lv_iand hx hb dJ10_bitCount_14 ?_
  refine lv_iload_n hx hb dJ10_bitCount_15 rfl (lv_at hl 0 rfl) ?_
  refine lv_iconst (v := 2) hx hb dJ10_bitCount_16 (by decide) ?_
  refine lv_iushr hx hb dJ10_bitCount_17 rfl ?_
  refine lv_ldcw (v := 858993459) hx hb hown (hts _ q857) dJ10_bitCount_18 ?_
  refine lv_iand hx hb dJ10_bitCount_21 ?_
  refine lv_iadd hx hb dJ10_bitCount_22 ?_
  obtain ⟨v_1, hv_1⟩ : ∃ z : Int32, ((i_ - (((i_.toUInt32 >>> ((1 : Int32).toUInt32 &&& Int32.toUInt32 31)).toInt32) &&& 1431655765)) &&& 858993459) + ((((i_ - (((i_.toUInt32 >>> ((1 : Int32).toUInt32 &&& Int32.toUInt32 31)).toInt32) &&& 1431655765)).toUInt32 >>> ((2 : Int32).toUInt32 &&& Int32.toUInt32 31)).toInt32) &&& 858993459) = z := ⟨_, rfl⟩
  refine zr_val (congrArg Value.int hv_1) ?_
  refine lv_istore_n (lv' := [(0, .int v_1)]) hx hb dJ10_bitCount_23 rfl hl (by decide) rfl (fun ls hl => ?_)
  refine lv_iload_n hx hb dJ10_bitCount_24 rfl (lv_at hl 0 rfl) ?_
  refine lv_iload_n hx hb dJ10_bitCount_25 rfl (lv_at hl 0 rfl) ?_
  refine lv_iconst (v := 4) hx hb dJ10_bitCount_26 (by decide) ?_
  refine lv_iushr hx hb dJ10_bitCount_27 rfl ?_
  refine lv_iadd hx hb dJ10_bitCount_28 ?_
  refine lv_ldcw (v := 252645135) hx hb hown (hts _ q858) dJ10_bitCount_29 ?_
  refine lv_iand hx hb dJ10_bitCount_32 ?_
  refine lv_istore_n (lv' := [(0, .int ((v_1 + ((v_1.toUInt32 >>> ((4 : Int32).toUInt32 &&& Int32.toUInt32 31)).toInt32)) &&& 252645135))]) hx hb dJ10_bitCount_33 rfl hl (by decide) rfl (fun ls hl => ?_)
  refine lv_iload_n hx hb dJ10_bitCount_34 rfl (lv_at hl 0 rfl) ?_
  refine lv_iload_n hx hb dJ10_bitCount_35 rfl (lv_at hl 0 rfl) ?_
  refine lv_bipush (v := 8) hx hb dJ10_bitCount_36 (by decide) ?_
  refine lv_iushr hx hb dJ10_bitCount_38 rfl ?_
  refine lv_iadd hx hb dJ10_bitCount_39 ?_
  obtain ⟨v_2, hv_2⟩ : ∃ z : Int32, ((v_1 + ((v_1.toUInt32 >>> ((4 : Int32).toUInt32 &&& Int32.toUInt32 31)).toInt32)) &&& 252645135) + ((((v_1 + ((v_1.toUInt32 >>> ((4 : Int32).toUInt32 &&& Int32.toUInt32 31)).toInt32)) &&& 252645135).toUInt32 >>> ((8 : Int32).toUInt32 &&& Int32.toUInt32 31)).toInt32) = z := ⟨_, rfl⟩
  refine zr_val (congrArg Value.int hv_2) ?_
  refine lv_istore_n (lv' := [(0, .int v_2)]) hx hb dJ10_bitCount_40 rfl hl (by decide) rfl (fun ls hl => ?_)
  refine lv_iload_n hx hb dJ10_bitCount_41 rfl (lv_at hl 0 rfl) ?_
  refine lv_iload_n hx hb dJ10_bitCount_42 rfl (lv_at hl 0 rfl) ?_
  refine lv_bipush (v := 16) hx hb dJ10_bitCount_43 (by decide) ?_
  refine lv_iushr hx hb dJ10_bitCount_45 rfl ?_
  refine lv_iadd hx hb dJ10_bitCount_46 ?_
  refine lv_istore_n (lv' := [(0, .int (v_2 + ((v_2.toUInt32 >>> ((16 : Int32).toUInt32 &&& Int32.toUInt32 31)).toInt32)))]) hx hb dJ10_bitCount_47 rfl hl (by decide) rfl (fun ls hl => ?_)
  refine lv_iload_n hx hb dJ10_bitCount_48 rfl (lv_at hl 0 rfl) ?_
  refine lv_bipush (v := 63) hx hb dJ10_bitCount_49 (by decide) ?_
  refine lv_iand hx hb dJ10_bitCount_51 ?_
  have e_ : jf_bitCount i_ = (v_2 + ((v_2.toUInt32 >>> ((16 : Int32).toUInt32 &&& Int32.toUInt32 31)).toInt32)) &&& 63 := by rw [jf_bitCount, zlet_eq hv_1, zlet_eq hv_2]
  exact zr_oi hx hb hr hlocks dJ10_bitCount_52 (congrArg Value.int e_)
theorem jf_bitCount_eq (i : Int32) : jf_bitCount i = nI (zpc i) := by
  obtain ⟨x, hx, rfl⟩ := zn_of i
  have hb := zbc_nat x hx
  obtain ⟨h1, h2, h3, h4⟩ := hb
  have hz : zpc (nI x) = zpcF 32 x := by rw [zpc_u, zn_tn hx]
  have hA : zbA 1431655765 x ≤ x := Nat.sub_le _ _
  have hle : (x / 2 &&& 1431655765) ≤ x := Nat.le_trans Nat.and_le_left (by omega)
  have e1 : nI x - ((((nI x).toUInt32 >>> ((1 : Int32).toUInt32 &&& Int32.toUInt32 31)).toInt32) &&& 1431655765) = nI (zbA 1431655765 x) := by
    have q : ((nI x).toUInt32 >>> ((1 : Int32).toUInt32 &&& Int32.toUInt32 31)).toInt32 = nI (x / 2 ^ 1) := pk_ushrN hx 1 1 (by decide)
    have q2 : nI (x / 2 ^ 1) &&& 1431655765 = nI (x / 2 &&& 1431655765) := zn_and (x / 2 ^ 1) 1431655765
    rw [q, q2, pk_sub hle]
    rfl
  have e2 : (nI (zbA 1431655765 x) &&& 858993459) + ((((nI (zbA 1431655765 x)).toUInt32 >>> ((2 : Int32).toUInt32 &&& Int32.toUInt32 31)).toInt32) &&& 858993459) = nI (zbB 858993459 (zbA 1431655765 x)) := by
    have q : ((nI (zbA 1431655765 x)).toUInt32 >>> ((2 : Int32).toUInt32 &&& Int32.toUInt32 31)).toInt32 = nI (zbA 1431655765 x / 2 ^ 2) := pk_ushrN (by omega) 2 2 (by decide)
    have q1 : nI (zbA 1431655765 x) &&& 858993459 = nI (zbA 1431655765 x &&& 858993459) := zn_and _ 858993459
    have q2 : nI (zbA 1431655765 x / 2 ^ 2) &&& 858993459 = nI (zbA 1431655765 x / 4 &&& 858993459) := zn_and _ 858993459
    rw [q, q1, q2, nI_add]
    rfl
  unfold jf_bitCount
  rw [zlet_eq (show _ = nI (zbB 858993459 (zbA 1431655765 x)) by rw [e1, e2])]
  generalize hv : zbB 858993459 (zbA 1431655765 x) = v1 at h1 h2 h3 h4 ⊢
  generalize hw : (v1 + v1 / 16) &&& 252645135 = w at h2 h3 h4 ⊢
  have f1 : (nI v1 + ((nI v1).toUInt32 >>> ((4 : Int32).toUInt32 &&& Int32.toUInt32 31)).toInt32) &&& 252645135 = nI w := by
    have q : ((nI v1).toUInt32 >>> ((4 : Int32).toUInt32 &&& Int32.toUInt32 31)).toInt32 = nI (v1 / 2 ^ 4) := pk_ushrN (by omega) 4 4 (by decide)
    have q1 : nI (v1 + v1 / 2 ^ 4) &&& 252645135 = nI ((v1 + v1 / 16) &&& 252645135) := zn_and _ 252645135
    rw [q, nI_add, q1, hw]
  have f2 : nI w + ((nI w).toUInt32 >>> ((8 : Int32).toUInt32 &&& Int32.toUInt32 31)).toInt32 = nI (w + w / 256) := by
    have q : ((nI w).toUInt32 >>> ((8 : Int32).toUInt32 &&& Int32.toUInt32 31)).toInt32 = nI (w / 2 ^ 8) := pk_ushrN (by omega) 8 8 (by decide)
    rw [q, nI_add]
  rw [zlet_eq (show _ = nI (w + w / 256) by rw [f1, f2])]
  generalize hy : w + w / 256 = v2 at h3 h4 ⊢
  have q : ((nI v2).toUInt32 >>> ((16 : Int32).toUInt32 &&& Int32.toUInt32 31)).toInt32 = nI (v2 / 2 ^ 16) := pk_ushrN (by omega) 16 16 (by decide)
  have q1 : nI (v2 + v2 / 2 ^ 16) &&& 63 = nI ((v2 + v2 / 65536) &&& 63) := zn_and _ 63
  rw [q, nI_add, q1, h4, hz]
theorem mt_bitCountN (l : Launch) (i_ : Int32) : Met l yJ10_bitCount (ws_ yJ10_bitCount cJ10_bitCount 1 (some .int)) (zR 1 0 0) (zPp [.int i_]) (k2_QcV (.int (nI (zpc i_)))) 0 0 (fun _ => False) := by
  rw [← jf_bitCount_eq]; exact mt_jf_bitCount l i_
