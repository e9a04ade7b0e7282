def jf_ntz (i_ : Int32) : Int32 :=
  zlet ((i_ ^^^ (-1)) &&& (i_ - 1)) (fun v_1 =>
  (if 0 < v_1 then
    (if v_1 ≤ 65536 then
      (if v_1 ≤ 256 then
        (if v_1 ≤ 16 then
          (if v_1 ≤ 4 then
            (1 + ((v_1.toUInt32 >>> ((1 : Int32).toUInt32 &&& Int32.toUInt32 31)).toInt32))
          else
            zlet ((v_1.toUInt32 >>> ((2 : Int32).toUInt32 &&& Int32.toUInt32 31)).toInt32) (fun v_7 =>
            (3 + ((v_7.toUInt32 >>> ((1 : Int32).toUInt32 &&& Int32.toUInt32 31)).toInt32))))
        else
          zlet ((v_1.toUInt32 >>> ((4 : Int32).toUInt32 &&& Int32.toUInt32 31)).toInt32) (fun v_8 =>
          (if v_8 ≤ 4 then
            (5 + ((v_8.toUInt32 >>> ((1 : Int32).toUInt32 &&& Int32.toUInt32 31)).toInt32))
          else
            zlet ((v_8.toUInt32 >>> ((2 : Int32).toUInt32 &&& Int32.toUInt32 31)).toInt32) (fun v_10 =>
            (7 + ((v_10.toUInt32 >>> ((1 : Int32).toUInt32 &&& Int32.toUInt32 31)).toInt32))))))
      else
        zlet ((v_1.toUInt32 >>> ((8 : Int32).toUInt32 &&& Int32.toUInt32 31)).toInt32) (fun v_11 =>
        (if v_11 ≤ 16 then
          (if v_11 ≤ 4 then
            (9 + ((v_11.toUInt32 >>> ((1 : Int32).toUInt32 &&& Int32.toUInt32 31)).toInt32))
          else
            zlet ((v_11.toUInt32 >>> ((2 : Int32).toUInt32 &&& Int32.toUInt32 31)).toInt32) (fun v_14 =>
            (11 + ((v_14.toUInt32 >>> ((1 : Int32).toUInt32 &&& Int32.toUInt32 31)).toInt32))))
        else
          zlet ((v_11.toUInt32 >>> ((4 : Int32).toUInt32 &&& Int32.toUInt32 31)).toInt32) (fun v_15 =>
          (if v_15 ≤ 4 then
            (13 + ((v_15.toUInt32 >>> ((1 : Int32).toUInt32 &&& Int32.toUInt32 31)).toInt32))
          else
            zlet ((v_15.toUInt32 >>> ((2 : Int32).toUInt32 &&& Int32.toUInt32 31)).toInt32) (fun v_17 =>
            (15 + ((v_17.toUInt32 >>> ((1 : Int32).toUInt32 &&& Int32.toUInt32 31)).toInt32))))))))
    else
      zlet ((v_1.toUInt32 >>> ((16 : Int32).toUInt32 &&& Int32.toUInt32 31)).toInt32) (fun v_18 =>
      (if v_18 ≤ 256 then
        (if v_18 ≤ 16 then
          (if v_18 ≤ 4 then
            (17 + ((v_18.toUInt32 >>> ((1 : Int32).toUInt32 &&& Int32.toUInt32 31)).toInt32))
          else
            zlet ((v_18.toUInt32 >>> ((2 : Int32).toUInt32 &&& Int32.toUInt32 31)).toInt32) (fun v_22 =>
            (19 + ((v_22.toUInt32 >>> ((1 : Int32).toUInt32 &&& Int32.toUInt32 31)).toInt32))))
        else
          zlet ((v_18.toUInt32 >>> ((4 : Int32).toUInt32 &&& Int32.toUInt32 31)).toInt32) (fun v_23 =>
          (if v_23 ≤ 4 then
            (21 + ((v_23.toUInt32 >>> ((1 : Int32).toUInt32 &&& Int32.toUInt32 31)).toInt32))
          else
            zlet ((v_23.toUInt32 >>> ((2 : Int32).toUInt32 &&& Int32.toUInt32 31)).toInt32) (fun v_25 =>
            (23 + ((v_25.toUInt32 >>> ((1 : Int32).toUInt32 &&& Int32.toUInt32 31)).toInt32))))))
      else
        zlet ((v_18.toUInt32 >>> ((8 : Int32).toUInt32 &&& Int32.toUInt32 31)).toInt32) (fun v_26 =>
        (if v_26 ≤ 16 then
          (if v_26 ≤ 4 then
            (25 + ((v_26.toUInt32 >>> ((1 : Int32).toUInt32 &&& Int32.toUInt32 31)).toInt32))
          else
            zlet ((v_26.toUInt32 >>> ((2 : Int32).toUInt32 &&& Int32.toUInt32 31)).toInt32) (fun v_29 =>
            (27 + ((v_29.toUInt32 >>> ((1 : Int32).toUInt32 &&& Int32.toUInt32 31)).toInt32))))
        else
          zlet ((v_26.toUInt32 >>> ((4 : Int32).toUInt32 &&& Int32.toUInt32 31)).toInt32) (fun v_30 =>
          (if v_30 ≤ 4 then
            (29 + ((v_30.toUInt32 >>> ((1 : Int32).toUInt32 &&& Int32.toUInt32 31)).toInt32))
          else
            zlet ((v_30.toUInt32 >>> ((2 : Int32).toUInt32 &&& Int32.toUInt32 31)).toInt32) (fun v_32 =>
            (31 + ((v_32.toUInt32 >>> ((1 : Int32).toUInt32 &&& Int32.toUInt32 31)).toInt32))))))))))
  else
    (v_1 &&& 32)))
theorem hd_J10_numberOfTrailingZeros : True ∧ yJ10_numberOfTrailingZeros.cls ≠ "java/lang/invoke/MethodHandle" ∧ yJ10_numberOfTrailingZeros.cls ≠ "java/lang/invoke/VarHandle" ∧ (parseMethodDescriptor yJ10_numberOfTrailingZeros.desc).map (fun d => d.parameters.length) = some 1 := by decide +kernel
set_option maxHeartbeats 4000000 in
set_option maxRecDepth 100000 in
theorem mt_jf_ntz (l : Launch) (i_ : Int32) : Met l yJ10_numberOfTrailingZeros (ws_ yJ10_numberOfTrailingZeros cJ10_numberOfTrailingZeros 2 (some .int)) (zR 1 0 0) (zPp [.int i_]) (k2_QcV (.int (jf_ntz i_))) 0 0 (fun _ => False) := by
  refine zr_entP (by decide) (Nat.le_of_ble_eq_true rfl) ?_
  intro p e s m below meth c ⟨hx, hb, hr, hml, hown, hts, hlocks, hnm⟩ ls hl
  have hown : s.vm.findClass RJ10 = some m.cls := hown
  have hl : lv_has ls 2 [(0, .int i_)] := hl
  refine lv_iload_n hx hb dJ10_numberOfTrailingZeros_0 rfl (lv_at hl 0 rfl) ?_
  refine lv_iconst (v := (-1)) hx hb dJ10_numberOfTrailingZeros_1 (by decide) ?_
  refine lv_ixor hx hb dJ10_numberOfTrailingZeros_2 ?_
  refine lv_iload_n hx hb dJ10_numberOfTrailingZeros_3 rfl (lv_at hl 0 rfl) ?_
  refine lv_iconst (v := 1) hx hb dJ10_numberOfTrailingZeros_4 (by decide) ?_
  refine lv_isub hx hb dJ10_numberOfTrailingZeros_5 ?_
  refine lv_iand hx hb dJ10_numberOfTrailingZeros_6 ?_
  obtain ⟨v_1, hv_1⟩ : ∃ z : Int32, (i_ ^^^ (-1)) &&& (i_ - 1) = z := ⟨_, rfl⟩
  refine zr_val (congrArg Value.int hv_1) ?_
  refine lv_istore_n (lv' := [(0, .int v_1)]) hx hb dJ10_numberOfTrailingZeros_7 rfl hl (by decide) rfl (fun ls hl => ?_)
  refine lv_iload_n hx hb dJ10_numberOfTrailingZeros_8 rfl (lv_at hl 0 rfl) ?_
  refine lv_if_gt (tgt := 17) hx hb dJ10_numberOfTrailingZeros_9 (by decide) (fun c_2 => ?_) (fun c_2 => ?_)
  · refine lv_iconst (v := 1) hx hb dJ10_numberOfTrailingZeros_17 (by decide) ?_
    refine lv_istore_n (lv' := [(1, .int 1), (0, .int v_1)]) hx hb dJ10_numberOfTrailingZeros_18 rfl hl (by decide) rfl (fun ls hl => ?_)
    refine lv_iload_n hx hb dJ10_numberOfTrailingZeros_19 rfl (lv_at hl 1 rfl) ?_
    refine lv_ldcw (v := 65536) hx hb hown (hts _ q1302) dJ10_numberOfTrailingZeros_20 ?_
    refine lv_icmp_le (tgt := 34) hx hb dJ10_numberOfTrailingZeros_23 (by decide) (fun c_3 => ?_) (fun c_3 => ?_)
    · refine lv_iload_n hx hb dJ10_numberOfTrailingZeros_34 rfl (lv_at hl 1 rfl) ?_
      refine lv_sipush (v := 256) hx hb dJ10_numberOfTrailingZeros_35 (by decide) ?_
      refine lv_icmp_le (tgt := 49) hx hb dJ10_numberOfTrailingZeros_38 (by decide) (fun c_4 => ?_) (fun c_4 => ?_)
      · refine lv_iload_n hx hb dJ10_numberOfTrailingZeros_49 rfl (lv_at hl 1 rfl) ?_
        refine lv_bipush (v := 16) hx hb dJ10_numberOfTrailingZeros_50 (by decide) ?_
        refine lv_icmp_le (tgt := 62) hx hb dJ10_numberOfTrailingZeros_52 (by decide) (fun c_5 => ?_) (fun c_5 => ?_)
        · refine lv_iload_n hx hb dJ10_numberOfTrailingZeros_62 rfl (lv_at hl 1 rfl) ?_
          refine lv_iconst (v := 4) hx hb dJ10_numberOfTrailingZeros_63 (by decide) ?_
          refine lv_icmp_le (tgt := 74) hx hb dJ10_numberOfTrailingZeros_64 (by decide) (fun c_6 => ?_) (fun c_6 => ?_)
          · refine lv_iload_n hx hb dJ10_numberOfTrailingZeros_74 rfl (lv_at hl 0 rfl) ?_
            refine lv_iload_n hx hb dJ10_numberOfTrailingZeros_75 rfl (lv_at hl 1 rfl) ?_
            refine lv_iconst (v := 1) hx hb dJ10_numberOfTrailingZeros_76 (by decide) ?_
            refine lv_iushr hx hb dJ10_numberOfTrailingZeros_77 rfl ?_
            refine lv_iadd hx hb dJ10_numberOfTrailingZeros_78 ?_
            have e_ : jf_ntz i_ = 1 + ((v_1.toUInt32 >>> ((1 : Int32).toUInt32 &&& Int32.toUInt32 31)).toInt32) := by rw [jf_ntz, zlet_eq hv_1, if_pos c_2, if_pos c_3, if_pos c_4, if_pos c_5, if_pos c_6]
            exact zr_oi hx hb hr hlocks dJ10_numberOfTrailingZeros_79 (congrArg Value.int e_)
          · refine lv_iinc (v := 3) (lv' := [(1, .int 3), (0, .int v_1)]) hx hb dJ10_numberOfTrailingZeros_67 hl (k := 0) rfl (by decide) (by decide) rfl (fun ls hl => ?_)
            refine lv_iload_n hx hb dJ10_numberOfTrailingZeros_70 rfl (lv_at hl 1 rfl) ?_
            refine lv_iconst (v := 2) hx hb dJ10_numberOfTrailingZeros_71 (by decide) ?_
            refine lv_iushr hx hb dJ10_numberOfTrailingZeros_72 rfl ?_
            obtain ⟨v_7, hv_7⟩ : ∃ z : Int32, (v_1.toUInt32 >>> ((2 : Int32).toUInt32 &&& Int32.toUInt32 31)).toInt32 = z := ⟨_, rfl⟩
            refine zr_val (congrArg Value.int hv_7) ?_
            refine lv_istore_n (lv' := [(0, .int v_7), (1, .int 3)]) hx hb dJ10_numberOfTrailingZeros_73 rfl hl (by decide) rfl (fun ls hl => ?_)
            refine lv_iload_n hx hb dJ10_numberOfTrailingZeros_74 rfl (lv_at hl 1 rfl) ?_
            refine lv_iload_n hx hb dJ10_numberOfTrailingZeros_75 rfl (lv_at hl 0 rfl) ?_
            refine lv_iconst (v := 1) hx hb dJ10_numberOfTrailingZeros_76 (by decide) ?_
            refine lv_iushr hx hb dJ10_numberOfTrailingZeros_77 rfl ?_
            refine lv_iadd hx hb dJ10_numberOfTrailingZeros_78 ?_
            have e_ : jf_ntz i_ = 3 + ((v_7.toUInt32 >>> ((1 : Int32).toUInt32 &&& Int32.toUInt32 31)).toInt32) := by rw [jf_ntz, zlet_eq hv_1, if_pos c_2, if_pos c_3, if_pos c_4, if_pos c_5, if_neg c_6, zlet_eq hv_7]
            exact zr_oi hx hb hr hlocks dJ10_numberOfTrailingZeros_79 (congrArg Value.int e_)
        · refine lv_iinc (v := 5) (lv' := [(1, .int 5), (0, .int v_1)]) hx hb dJ10_numberOfTrailingZeros_55 hl (k := 0) rfl (by decide) (by decide) rfl (fun ls hl => ?_)
          refine lv_iload_n hx hb dJ10_numberOfTrailingZeros_58 rfl (lv_at hl 1 rfl) ?_
          refine lv_iconst (v := 4) hx hb dJ10_numberOfTrailingZeros_59 (by decide) ?_
          refine lv_iushr hx hb dJ10_numberOfTrailingZeros_60 rfl ?_
          obtain ⟨v_8, hv_8⟩ : ∃ z : Int32, (v_1.toUInt32 >>> ((4 : Int32).toUInt32 &&& Int32.toUInt32 31)).toInt32 = z := ⟨_, rfl⟩
          refine zr_val (congrArg Value.int hv_8) ?_
          refine lv_istore_n (lv' := [(0, .int v_8), (1, .int 5)]) hx hb dJ10_numberOfTrailingZeros_61 rfl hl (by decide) rfl (fun ls hl => ?_)
          refine lv_iload_n hx hb dJ10_numberOfTrailingZeros_62 rfl (lv_at hl 0 rfl) ?_
          refine lv_iconst (v := 4) hx hb dJ10_numberOfTrailingZeros_63 (by decide) ?_
          refine lv_icmp_le (tgt := 74) hx hb dJ10_numberOfTrailingZeros_64 (by decide) (fun c_9 => ?_) (fun c_9 => ?_)
          · refine lv_iload_n hx hb dJ10_numberOfTrailingZeros_74 rfl (lv_at hl 1 rfl) ?_
            refine lv_iload_n hx hb dJ10_numberOfTrailingZeros_75 rfl (lv_at hl 0 rfl) ?_
            refine lv_iconst (v := 1) hx hb dJ10_numberOfTrailingZeros_76 (by decide) ?_
            refine lv_iushr hx hb dJ10_numberOfTrailingZeros_77 rfl ?_
            refine lv_iadd hx hb dJ10_numberOfTrailingZeros_78 ?_
            have e_ : jf_ntz i_ = 5 + ((v_8.toUInt32 >>> ((1 : Int32).toUInt32 &&& Int32.toUInt32 31)).toInt32) := by rw [jf_ntz, zlet_eq hv_1, if_pos c_2, if_pos c_3, if_pos c_4, if_neg c_5, zlet_eq hv_8, if_pos c_9]
            exact zr_oi hx hb hr hlocks dJ10_numberOfTrailingZeros_79 (congrArg Value.int e_)
          · refine lv_iinc (v := 7) (lv' := [(1, .int 7), (0, .int v_8)]) hx hb dJ10_numberOfTrailingZeros_67 hl (k := 1) rfl (by decide) (by decide) rfl (fun ls hl => ?_)
            refine lv_iload_n hx hb dJ10_numberOfTrailingZeros_70 rfl (lv_at hl 1 rfl) ?_
            refine lv_iconst (v := 2) hx hb dJ10_numberOfTrailingZeros_71 (by decide) ?_
            refine lv_iushr hx hb dJ10_numberOfTrailingZeros_72 rfl ?_
            obtain ⟨v_10, hv_10⟩ : ∃ z : Int32, (v_8.toUInt32 >>> ((2 : Int32).toUInt32 &&& Int32.toUInt32 31)).toInt32 = z := ⟨_, rfl⟩
            refine zr_val (congrArg Value.int hv_10) ?_
            refine lv_istore_n (lv' := [(0, .int v_10), (1, .int 7)]) hx hb dJ10_numberOfTrailingZeros_73 rfl hl (by decide) rfl (fun ls hl => ?_)
            refine lv_iload_n hx hb dJ10_numberOfTrailingZeros_74 rfl (lv_at hl 1 rfl) ?_
            refine lv_iload_n hx hb dJ10_numberOfTrailingZeros_75 rfl (lv_at hl 0 rfl) ?_
            refine lv_iconst (v := 1) hx hb dJ10_numberOfTrailingZeros_76 (by decide) ?_
            refine lv_iushr hx hb dJ10_numberOfTrailingZeros_77 rfl ?_
            refine lv_iadd hx hb dJ10_numberOfTrailingZeros_78 ?_
            have e_ : jf_ntz i_ = 7 + ((v_10.toUInt32 >>> ((1 : Int32).toUInt32 &&& Int32.toUInt32 31)).toInt32) := by rw [jf_ntz, zlet_eq hv_1, if_pos c_2, if_pos c_3, if_pos c_4, if_neg c_5, zlet_eq hv_8, if_neg c_9, zlet_eq hv_10]
            exact zr_oi hx hb hr hlocks dJ10_numberOfTrailingZeros_79 (congrArg Value.int e_)
      · refine lv_iinc (v := 9) (lv' := [(1, .int 9), (0, .int v_1)]) hx hb dJ10_numberOfTrailingZeros_41 hl (k := 0) rfl (by decide) (by decide) rfl (fun ls hl => ?_)
        refine lv_iload_n hx hb dJ10_numberOfTrailingZeros_44 rfl (lv_at hl 1 rfl) ?_
        refine lv_bipush (v := 8) hx hb dJ10_numberOfTrailingZeros_45 (by decide) ?_
        refine lv_iushr hx hb dJ10_numberOfTrailingZeros_47 rfl ?_
        obtain ⟨v_11, hv_11⟩ : ∃ z : Int32, (v_1.toUInt32 >>> ((8 : Int32).toUInt32 &&& Int32.toUInt32 31)).toInt32 = z := ⟨_, rfl⟩
        refine zr_val (congrArg Value.int hv_11) ?_
        refine lv_istore_n (lv' := [(0, .int v_11), (1, .int 9)]) hx hb dJ10_numberOfTrailingZeros_48 rfl hl (by decide) rfl (fun ls hl => ?_)
        refine lv_iload_n hx hb dJ10_numberOfTrailingZeros_49 rfl (lv_at hl 0 rfl) ?_
        refine lv_bipush (v := 16) hx hb dJ10_numberOfTrailingZeros_50 (by decide) ?_
        refine lv_icmp_le (tgt := 62) hx hb dJ10_numberOfTrailingZeros_52 (by decide) (fun c_12 => ?_) (fun c_12 => ?_)
        · refine lv_iload_n hx hb dJ10_numberOfTrailingZeros_62 rfl (lv_at hl 0 rfl) ?_
          refine lv_iconst (v := 4) hx hb dJ10_numberOfTrailingZeros_63 (by decide) ?_
          refine lv_icmp_le (tgt := 74) hx hb dJ10_numberOfTrailingZeros_64 (by decide) (fun c_13 => ?_) (fun c_13 => ?_)
          · refine lv_iload_n hx hb dJ10_numberOfTrailingZeros_74 rfl (lv_at hl 1 rfl) ?_
            refine lv_iload_n hx hb dJ10_numberOfTrailingZeros_75 rfl (lv_at hl 0 rfl) ?_
            refine lv_iconst (v := 1) hx hb dJ10_numberOfTrailingZeros_76 (by decide) ?_
            refine lv_iushr hx hb dJ10_numberOfTrailingZeros_77 rfl ?_
            refine lv_iadd hx hb dJ10_numberOfTrailingZeros_78 ?_
            have e_ : jf_ntz i_ = 9 + ((v_11.toUInt32 >>> ((1 : Int32).toUInt32 &&& Int32.toUInt32 31)).toInt32) := by rw [jf_ntz, zlet_eq hv_1, if_pos c_2, if_pos c_3, if_neg c_4, zlet_eq hv_11, if_pos c_12, if_pos c_13]
            exact zr_oi hx hb hr hlocks dJ10_numberOfTrailingZeros_79 (congrArg Value.int e_)
          · refine lv_iinc (v := 11) (lv' := [(1, .int 11), (0, .int v_11)]) hx hb dJ10_numberOfTrailingZeros_67 hl (k := 1) rfl (by decide) (by decide) rfl (fun ls hl => ?_)
            refine lv_iload_n hx hb dJ10_numberOfTrailingZeros_70 rfl (lv_at hl 1 rfl) ?_
            refine lv_iconst (v := 2) hx hb dJ10_numberOfTrailingZeros_71 (by decide) ?_
            refine lv_iushr hx hb dJ10_numberOfTrailingZeros_72 rfl ?_
            obtain ⟨v_14, hv_14⟩ : ∃ z : Int32, (v_11.toUInt32 >>> ((2 : Int32).toUInt32 &&& Int32.toUInt32 31)).toInt32 = z := ⟨_, rfl⟩
            refine zr_val (congrArg Value.int hv_14) ?_
            refine lv_istore_n (lv' := [(0, .int v_14), (1, .int 11)]) hx hb dJ10_numberOfTrailingZeros_73 rfl hl (by decide) rfl (fun ls hl => ?_)
            refine lv_iload_n hx hb dJ10_numberOfTrailingZeros_74 rfl (lv_at hl 1 rfl) ?_
            refine lv_iload_n hx hb dJ10_numberOfTrailingZeros_75 rfl (lv_at hl 0 rfl) ?_
            refine lv_iconst (v := 1) hx hb dJ10_numberOfTrailingZeros_76 (by decide) ?_
            refine lv_iushr hx hb dJ10_numberOfTrailingZeros_77 rfl ?_
            refine lv_iadd hx hb dJ10_numberOfTrailingZeros_78 ?_
            have e_ : jf_ntz i_ = 11 + ((v_14.toUInt32 >>> ((1 : Int32).toUInt32 &&& Int32.toUInt32 31)).toInt32) := by rw [jf_ntz, zlet_eq hv_1, if_pos c_2, if_pos c_3, if_neg c_4, zlet_eq hv_11, if_pos c_12, if_neg c_13, zlet_eq hv_14]
            exact zr_oi hx hb hr hlocks dJ10_numberOfTrailingZeros_79 (congrArg Value.int e_)
        · refine lv_iinc (v := 13) (lv' := [(1, .int 13), (0, .int v_11)]) hx hb dJ10_numberOfTrailingZeros_55 hl (k := 1) rfl (by decide) (by decide) rfl (fun ls hl => ?_)
          refine lv_iload_n hx hb dJ10_numberOfTrailingZeros_58 rfl (lv_at hl 1 rfl) ?_
          refine lv_iconst (v := 4) hx hb dJ10_numberOfTrailingZeros_59 (by decide) ?_
          refine lv_iushr hx hb dJ10_numberOfTrailingZeros_60 rfl ?_
          obtain ⟨v_15, hv_15⟩ : ∃ z : Int32, (v_11.toUInt32 >>> ((4 : Int32).toUInt32 &&& Int32.toUInt32 31)).toInt32 = z := ⟨_, rfl⟩
          refine zr_val (congrArg Value.int hv_15) ?_
          refine lv_istore_n (lv' := [(0, .int v_15), (1, .int 13)]) hx hb dJ10_numberOfTrailingZeros_61 rfl hl (by decide) rfl (fun ls hl => ?_)
          refine lv_iload_n hx hb dJ10_numberOfTrailingZeros_62 rfl (lv_at hl 0 rfl) ?_
          refine lv_iconst (v := 4) hx hb dJ10_numberOfTrailingZeros_63 (by decide) ?_
          refine lv_icmp_le (tgt := 74) hx hb dJ10_numberOfTrailingZeros_64 (by decide) (fun c_16 => ?_) (fun c_16 => ?_)
          · refine lv_iload_n hx hb dJ10_numberOfTrailingZeros_74 rfl (lv_at hl 1 rfl) ?_
            refine lv_iload_n hx hb dJ10_numberOfTrailingZeros_75 rfl (lv_at hl 0 rfl) ?_
            refine lv_iconst (v := 1) hx hb dJ10_numberOfTrailingZeros_76 (by decide) ?_
            refine lv_iushr hx hb dJ10_numberOfTrailingZeros_77 rfl ?_
            refine lv_iadd hx hb dJ10_numberOfTrailingZeros_78 ?_
            have e_ : jf_ntz i_ = 13 + ((v_15.toUInt32 >>> ((1 : Int32).toUInt32 &&& Int32.toUInt32 31)).toInt32) := by rw [jf_ntz, zlet_eq hv_1, if_pos c_2, if_pos c_3, if_neg c_4, zlet_eq hv_11, if_neg c_12, zlet_eq hv_15, if_pos c_16]
            exact zr_oi hx hb hr hlocks dJ10_numberOfTrailingZeros_79 (congrArg Value.int e_)
          · refine lv_iinc (v := 15) (lv' := [(1, .int 15), (0, .int v_15)]) hx hb dJ10_numberOfTrailingZeros_67 hl (k := 1) rfl (by decide) (by decide) rfl (fun ls hl => ?_)
            refine lv_iload_n hx hb dJ10_numberOfTrailingZeros_70 rfl (lv_at hl 1 rfl) ?_
            refine lv_iconst (v := 2) hx hb dJ10_numberOfTrailingZeros_71 (by decide) ?_
            refine lv_iushr hx hb dJ10_numberOfTrailingZeros_72 rfl ?_
            obtain ⟨v_17, hv_17⟩ : ∃ z : Int32, (v_15.toUInt32 >>> ((2 : Int32).toUInt32 &&& Int32.toUInt32 31)).toInt32 = z := ⟨_, rfl⟩
            refine zr_val (congrArg Value.int hv_17) ?_
            refine lv_istore_n (lv' := [(0, .int v_17), (1, .int 15)]) hx hb dJ10_numberOfTrailingZeros_73 rfl hl (by decide) rfl (fun ls hl => ?_)
            refine lv_iload_n hx hb dJ10_numberOfTrailingZeros_74 rfl (lv_at hl 1 rfl) ?_
            refine lv_iload_n hx hb dJ10_numberOfTrailingZeros_75 rfl (lv_at hl 0 rfl) ?_
            refine lv_iconst (v := 1) hx hb dJ10_numberOfTrailingZeros_76 (by decide) ?_
            refine lv_iushr hx hb dJ10_numberOfTrailingZeros_77 rfl ?_
            refine lv_iadd hx hb dJ10_numberOfTrailingZeros_78 ?_
            have e_ : jf_ntz i_ = 15 + ((v_17.toUInt32 >>> ((1 : Int32).toUInt32 &&& Int32.toUInt32 31)).toInt32) := by rw [jf_ntz, zlet_eq hv_1, if_pos c_2, if_pos c_3, if_neg c_4, zlet_eq hv_11, if_neg c_12, zlet_eq hv_15, if_neg c_16, zlet_eq hv_17]
            exact zr_oi hx hb hr hlocks dJ10_numberOfTrailingZeros_79 (congrArg Value.int e_)
    · refine lv_iinc (v := 17) (lv' := [(1, .int 17), (0, .int v_1)]) hx hb dJ10_numberOfTrailingZeros_26 hl (k := 0) rfl (by decide) (by decide) rfl (fun ls hl => ?_)
      refine lv_iload_n hx hb dJ10_numberOfTrailingZeros_29 rfl (lv_at hl 1 rfl) ?_
      refine lv_bipush (v := 16) hx hb dJ10_numberOfTrailingZeros_30 (by decide) ?_
      refine lv_iushr hx hb dJ10_numberOfTrailingZeros_32 rfl ?_
      obtain ⟨v_18, hv_18⟩ : ∃ z : Int32, (v_1.toUInt32 >>> ((16 : Int32).toUInt32 &&& Int32.toUInt32 31)).toInt32 = z := ⟨_, rfl⟩
      refine zr_val (congrArg Value.int hv_18) ?_
      refine lv_istore_n (lv' := [(0, .int v_18), (1, .int 17)]) hx hb dJ10_numberOfTrailingZeros_33 rfl hl (by decide) rfl (fun ls hl => ?_)
      refine lv_iload_n hx hb dJ10_numberOfTrailingZeros_34 rfl (lv_at hl 0 rfl) ?_
      refine lv_sipush (v := 256) hx hb dJ10_numberOfTrailingZeros_35 (by decide) ?_
      refine lv_icmp_le (tgt := 49) hx hb dJ10_numberOfTrailingZeros_38 (by decide) (fun c_19 => ?_) (fun c_19 => ?_)
      · refine lv_iload_n hx hb dJ10_numberOfTrailingZeros_49 rfl (lv_at hl 0 rfl) ?_
        refine lv_bipush (v := 16) hx hb dJ10_numberOfTrailingZeros_50 (by decide) ?_
        refine lv_icmp_le (tgt := 62) hx hb dJ10_numberOfTrailingZeros_52 (by decide) (fun c_20 => ?_) (fun c_20 => ?_)
        · refine lv_iload_n hx hb dJ10_numberOfTrailingZeros_62 rfl (lv_at hl 0 rfl) ?_
          refine lv_iconst (v := 4) hx hb dJ10_numberOfTrailingZeros_63 (by decide) ?_
          refine lv_icmp_le (tgt := 74) hx hb dJ10_numberOfTrailingZeros_64 (by decide) (fun c_21 => ?_) (fun c_21 => ?_)
          · refine lv_iload_n hx hb dJ10_numberOfTrailingZeros_74 rfl (lv_at hl 1 rfl) ?_
            refine lv_iload_n hx hb dJ10_numberOfTrailingZeros_75 rfl (lv_at hl 0 rfl) ?_
            refine lv_iconst (v := 1) hx hb dJ10_numberOfTrailingZeros_76 (by decide) ?_
            refine lv_iushr hx hb dJ10_numberOfTrailingZeros_77 rfl ?_
            refine lv_iadd hx hb dJ10_numberOfTrailingZeros_78 ?_
            have e_ : jf_ntz i_ = 17 + ((v_18.toUInt32 >>> ((1 : Int32).toUInt32 &&& Int32.toUInt32 31)).toInt32) := by rw [jf_ntz, zlet_eq hv_1, if_pos c_2, if_neg c_3, zlet_eq hv_18, if_pos c_19, if_pos c_20, if_pos c_21]
            exact zr_oi hx hb hr hlocks dJ10_numberOfTrailingZeros_79 (congrArg Value.int e_)
          · refine lv_iinc (v := 19) (lv' := [(1, .int 19), (0, .int v_18)]) hx hb dJ10_numberOfTrailingZeros_67 hl (k := 1) rfl (by decide) (by decide) rfl (fun ls hl => ?_)
            refine lv_iload_n hx hb dJ10_numberOfTrailingZeros_70 rfl (lv_at hl 1 rfl) ?_
            refine lv_iconst (v := 2) hx hb dJ10_numberOfTrailingZeros_71 (by decide) ?_
            refine lv_iushr hx hb dJ10_numberOfTrailingZeros_72 rfl ?_
            obtain ⟨v_22, hv_22⟩ : ∃ z : Int32, (v_18.toUInt32 >>> ((2 : Int32).toUInt32 &&& Int32.toUInt32 31)).toInt32 = z := ⟨_, rfl⟩
            refine zr_val (congrArg Value.int hv_22) ?_
            refine lv_istore_n (lv' := [(0, .int v_22), (1, .int 19)]) hx hb dJ10_numberOfTrailingZeros_73 rfl hl (by decide) rfl (fun ls hl => ?_)
            refine lv_iload_n hx hb dJ10_numberOfTrailingZeros_74 rfl (lv_at hl 1 rfl) ?_
            refine lv_iload_n hx hb dJ10_numberOfTrailingZeros_75 rfl (lv_at hl 0 rfl) ?_
            refine lv_iconst (v := 1) hx hb dJ10_numberOfTrailingZeros_76 (by decide) ?_
            refine lv_iushr hx hb dJ10_numberOfTrailingZeros_77 rfl ?_
            refine lv_iadd hx hb dJ10_numberOfTrailingZeros_78 ?_
            have e_ : jf_ntz i_ = 19 + ((v_22.toUInt32 >>> ((1 : Int32).toUInt32 &&& Int32.toUInt32 31)).toInt32) := by rw [jf_ntz, zlet_eq hv_1, if_pos c_2, if_neg c_3, zlet_eq hv_18, if_pos c_19, if_pos c_20, if_neg c_21, zlet_eq hv_22]
            exact zr_oi hx hb hr hlocks dJ10_numberOfTrailingZeros_79 (congrArg Value.int e_)
        · refine lv_iinc (v := 21) (lv' := [(1, .int 21), (0, .int v_18)]) hx hb dJ10_numberOfTrailingZeros_55 hl (k := 1) rfl (by decide) (by decide) rfl (fun ls hl => ?_)
          refine lv_iload_n hx hb dJ10_numberOfTrailingZeros_58 rfl (lv_at hl 1 rfl) ?_
          refine lv_iconst (v := 4) hx hb dJ10_numberOfTrailingZeros_59 (by decide) ?_
          refine lv_iushr hx hb dJ10_numberOfTrailingZeros_60 rfl ?_
          obtain ⟨v_23, hv_23⟩ : ∃ z : Int32, (v_18.toUInt32 >>> ((4 : Int32).toUInt32 &&& Int32.toUInt32 31)).toInt32 = z := ⟨_, rfl⟩
          refine zr_val (congrArg Value.int hv_23) ?_
          refine lv_istore_n (lv' := [(0, .int v_23), (1, .int 21)]) hx hb dJ10_numberOfTrailingZeros_61 rfl hl (by decide) rfl (fun ls hl => ?_)
          refine lv_iload_n hx hb dJ10_numberOfTrailingZeros_62 rfl (lv_at hl 0 rfl) ?_
          refine lv_iconst (v := 4) hx hb dJ10_numberOfTrailingZeros_63 (by decide) ?_
          refine lv_icmp_le (tgt := 74) hx hb dJ10_numberOfTrailingZeros_64 (by decide) (fun c_24 => ?_) (fun c_24 => ?_)
          · refine lv_iload_n hx hb dJ10_numberOfTrailingZeros_74 rfl (lv_at hl 1 rfl) ?_
            refine lv_iload_n hx hb dJ10_numberOfTrailingZeros_75 rfl (lv_at hl 0 rfl) ?_
            refine lv_iconst (v := 1) hx hb dJ10_numberOfTrailingZeros_76 (by decide) ?_
            refine lv_iushr hx hb dJ10_numberOfTrailingZeros_77 rfl ?_
            refine lv_iadd hx hb dJ10_numberOfTrailingZeros_78 ?_
            have e_ : jf_ntz i_ = 21 + ((v_23.toUInt32 >>> ((1 : Int32).toUInt32 &&& Int32.toUInt32 31)).toInt32) := by rw [jf_ntz, zlet_eq hv_1, if_pos c_2, if_neg c_3, zlet_eq hv_18, if_pos c_19, if_neg c_20, zlet_eq hv_23, if_pos c_24]
            exact zr_oi hx hb hr hlocks dJ10_numberOfTrailingZeros_79 (congrArg Value.int e_)
          · refine lv_iinc (v := 23) (lv' := [(1, .int 23), (0, .int v_23)]) hx hb dJ10_numberOfTrailingZeros_67 hl (k := 1) rfl (by decide) (by decide) rfl (fun ls hl => ?_)
            refine lv_iload_n hx hb dJ10_numberOfTrailingZeros_70 rfl (lv_at hl 1 rfl) ?_
            refine lv_iconst (v := 2) hx hb dJ10_numberOfTrailingZeros_71 (by decide) ?_
            refine lv_iushr hx hb dJ10_numberOfTrailingZeros_72 rfl ?_
            obtain ⟨v_25, hv_25⟩ : ∃ z : Int32, (v_23.toUInt32 >>> ((2 : Int32).toUInt32 &&& Int32.toUInt32 31)).toInt32 = z := ⟨_, rfl⟩
            refine zr_val (congrArg Value.int hv_25) ?_
            refine lv_istore_n (lv' := [(0, .int v_25), (1, .int 23)]) hx hb dJ10_numberOfTrailingZeros_73 rfl hl (by decide) rfl (fun ls hl => ?_)
            refine lv_iload_n hx hb dJ10_numberOfTrailingZeros_74 rfl (lv_at hl 1 rfl) ?_
            refine lv_iload_n hx hb dJ10_numberOfTrailingZeros_75 rfl (lv_at hl 0 rfl) ?_
            refine lv_iconst (v := 1) hx hb dJ10_numberOfTrailingZeros_76 (by decide) ?_
            refine lv_iushr hx hb dJ10_numberOfTrailingZeros_77 rfl ?_
            refine lv_iadd hx hb dJ10_numberOfTrailingZeros_78 ?_
            have e_ : jf_ntz i_ = 23 + ((v_25.toUInt32 >>> ((1 : Int32).toUInt32 &&& Int32.toUInt32 31)).toInt32) := by rw [jf_ntz, zlet_eq hv_1, if_pos c_2, if_neg c_3, zlet_eq hv_18, if_pos c_19, if_neg c_20, zlet_eq hv_23, if_neg c_24, zlet_eq hv_25]
            exact zr_oi hx hb hr hlocks dJ10_numberOfTrailingZeros_79 (congrArg Value.int e_)
      · refine lv_iinc (v := 25) (lv' := [(1, .int 25), (0, .int v_18)]) hx hb dJ10_numberOfTrailingZeros_41 hl (k := 1) rfl (by decide) (by decide) rfl (fun ls hl => ?_)
        refine lv_iload_n hx hb dJ10_numberOfTrailingZeros_44 rfl (lv_at hl 1 rfl) ?_
        refine lv_bipush (v := 8) hx hb dJ10_numberOfTrailingZeros_45 (by decide) ?_
        refine lv_iushr hx hb dJ10_numberOfTrailingZeros_47 rfl ?_
        obtain ⟨v_26, hv_26⟩ : ∃ z : Int32, (v_18.toUInt32 >>> ((8 : Int32).toUInt32 &&& Int32.toUInt32 31)).toInt32 = z := ⟨_, rfl⟩
        refine zr_val (congrArg Value.int hv_26) ?_
        refine lv_istore_n (lv' := [(0, .int v_26), (1, .int 25)]) hx hb dJ10_numberOfTrailingZeros_48 rfl hl (by decide) rfl (fun ls hl => ?_)
        refine lv_iload_n hx hb dJ10_numberOfTrailingZeros_49 rfl (lv_at hl 0 rfl) ?_
        refine lv_bipush (v := 16) hx hb dJ10_numberOfTrailingZeros_50 (by decide) ?_
        refine lv_icmp_le (tgt := 62) hx hb dJ10_numberOfTrailingZeros_52 (by decide) (fun c_27 => ?_) (fun c_27 => ?_)
        · refine lv_iload_n hx hb dJ10_numberOfTrailingZeros_62 rfl (lv_at hl 0 rfl) ?_
          refine lv_iconst (v := 4) hx hb dJ10_numberOfTrailingZeros_63 (by decide) ?_
          refine lv_icmp_le (tgt := 74) hx hb dJ10_numberOfTrailingZeros_64 (by decide) (fun c_28 => ?_) (fun c_28 => ?_)
          · refine lv_iload_n hx hb dJ10_numberOfTrailingZeros_74 rfl (lv_at hl 1 rfl) ?_
            refine lv_iload_n hx hb dJ10_numberOfTrailingZeros_75 rfl (lv_at hl 0 rfl) ?_
            refine lv_iconst (v := 1) hx hb dJ10_numberOfTrailingZeros_76 (by decide) ?_
            refine lv_iushr hx hb dJ10_numberOfTrailingZeros_77 rfl ?_
            refine lv_iadd hx hb dJ10_numberOfTrailingZeros_78 ?_
            have e_ : jf_ntz i_ = 25 + ((v_26.toUInt32 >>> ((1 : Int32).toUInt32 &&& Int32.toUInt32 31)).toInt32) := by rw [jf_ntz, zlet_eq hv_1, if_pos c_2, if_neg c_3, zlet_eq hv_18, if_neg c_19, zlet_eq hv_26, if_pos c_27, if_pos c_28]
            exact zr_oi hx hb hr hlocks dJ10_numberOfTrailingZeros_79 (congrArg Value.int e_)
          · refine lv_iinc (v := 27) (lv' := [(1, .int 27), (0, .int v_26)]) hx hb dJ10_numberOfTrailingZeros_67 hl (k := 1) rfl (by decide) (by decide) rfl (fun ls hl => ?_)
            refine lv_iload_n hx hb dJ10_numberOfTrailingZeros_70 rfl (lv_at hl 1 rfl) ?_
            refine lv_iconst (v := 2) hx hb dJ10_numberOfTrailingZeros_71 (by decide) ?_
            refine lv_iushr hx hb dJ10_numberOfTrailingZeros_72 rfl ?_
            obtain ⟨v_29, hv_29⟩ : ∃ z : Int32, (v_26.toUInt32 >>> ((2 : Int32).toUInt32 &&& Int32.toUInt32 31)).toInt32 = z := ⟨_, rfl⟩
            refine zr_val (congrArg Value.int hv_29) ?_
            refine lv_istore_n (lv' := [(0, .int v_29), (1, .int 27)]) hx hb dJ10_numberOfTrailingZeros_73 rfl hl (by decide) rfl (fun ls hl => ?_)
            refine lv_iload_n hx hb dJ10_numberOfTrailingZeros_74 rfl (lv_at hl 1 rfl) ?_
            refine lv_iload_n hx hb dJ10_numberOfTrailingZeros_75 rfl (lv_at hl 0 rfl) ?_
            refine lv_iconst (v := 1) hx hb dJ10_numberOfTrailingZeros_76 (by decide) ?_
            refine lv_iushr hx hb dJ10_numberOfTrailingZeros_77 rfl ?_
            refine lv_iadd hx hb dJ10_numberOfTrailingZeros_78 ?_
            have e_ : jf_ntz i_ = 27 + ((v_29.toUInt32 >>> ((1 : Int32).toUInt32 &&& Int32.toUInt32 31)).toInt32) := by rw [jf_ntz, zlet_eq hv_1, if_pos c_2, if_neg c_3, zlet_eq hv_18, if_neg c_19, zlet_eq hv_26, if_pos c_27, if_neg c_28, zlet_eq hv_29]
            exact zr_oi hx hb hr hlocks dJ10_numberOfTrailingZeros_79 (congrArg Value.int e_)
        · refine lv_iinc (v := 29) (lv' := [(1, .int 29), (0, .int v_26)]) hx hb dJ10_numberOfTrailingZeros_55 hl (k := 1) rfl (by decide) (by decide) rfl (fun ls hl => ?_)
          refine lv_iload_n hx hb dJ10_numberOfTrailingZeros_58 rfl (lv_at hl 1 rfl) ?_
          refine lv_iconst (v := 4) hx hb dJ10_numberOfTrailingZeros_59 (by decide) ?_
          refine lv_iushr hx hb dJ10_numberOfTrailingZeros_60 rfl ?_
          obtain ⟨v_30, hv_30⟩ : ∃ z : Int32, (v_26.toUInt32 >>> ((4 : Int32).toUInt32 &&& Int32.toUInt32 31)).toInt32 = z := ⟨_, rfl⟩
          refine zr_val (congrArg Value.int hv_30) ?_
          refine lv_istore_n (lv' := [(0, .int v_30), (1, .int 29)]) hx hb dJ10_numberOfTrailingZeros_61 rfl hl (by decide) rfl (fun ls hl => ?_)
          refine lv_iload_n hx hb dJ10_numberOfTrailingZeros_62 rfl (lv_at hl 0 rfl) ?_
          refine lv_iconst (v := 4) hx hb dJ10_numberOfTrailingZeros_63 (by decide) ?_
          refine lv_icmp_le (tgt := 74) hx hb dJ10_numberOfTrailingZeros_64 (by decide) (fun c_31 => ?_) (fun c_31 => ?_)
          · refine lv_iload_n hx hb dJ10_numberOfTrailingZeros_74 rfl (lv_at hl 1 rfl) ?_
            refine lv_iload_n hx hb dJ10_numberOfTrailingZeros_75 rfl (lv_at hl 0 rfl) ?_
            refine lv_iconst (v := 1) hx hb dJ10_numberOfTrailingZeros_76 (by decide) ?_
            refine lv_iushr hx hb dJ10_numberOfTrailingZeros_77 rfl ?_
            refine lv_iadd hx hb dJ10_numberOfTrailingZeros_78 ?_
            have e_ : jf_ntz i_ = 29 + ((v_30.toUInt32 >>> ((1 : Int32).toUInt32 &&& Int32.toUInt32 31)).toInt32) := by rw [jf_ntz, zlet_eq hv_1, if_pos c_2, if_neg c_3, zlet_eq hv_18, if_neg c_19, zlet_eq hv_26, if_neg c_27, zlet_eq hv_30, if_pos c_31]
            exact zr_oi hx hb hr hlocks dJ10_numberOfTrailingZeros_79 (congrArg Value.int e_)
          · refine lv_iinc (v := 31) (lv' := [(1, .int 31), (0, .int v_30)]) hx hb dJ10_numberOfTrailingZeros_67 hl (k := 1) rfl (by decide) (by decide) rfl (fun ls hl => ?_)
            refine lv_iload_n hx hb dJ10_numberOfTrailingZeros_70 rfl (lv_at hl 1 rfl) ?_
            refine lv_iconst (v := 2) hx hb dJ10_numberOfTrailingZeros_71 (by decide) ?_
            refine lv_iushr hx hb dJ10_numberOfTrailingZeros_72 rfl ?_
            obtain ⟨v_32, hv_32⟩ : ∃ z : Int32, (v_30.toUInt32 >>> ((2 : Int32).toUInt32 &&& Int32.toUInt32 31)).toInt32 = z := ⟨_, rfl⟩
            refine zr_val (congrArg Value.int hv_32) ?_
            refine lv_istore_n (lv' := [(0, .int v_32), (1, .int 31)]) hx hb dJ10_numberOfTrailingZeros_73 rfl hl (by decide) rfl (fun ls hl => ?_)
            refine lv_iload_n hx hb dJ10_numberOfTrailingZeros_74 rfl (lv_at hl 1 rfl) ?_
            refine lv_iload_n hx hb dJ10_numberOfTrailingZeros_75 rfl (lv_at hl 0 rfl) ?_
            refine lv_iconst (v := 1) hx hb dJ10_numberOfTrailingZeros_76 (by decide) ?_
            refine lv_iushr hx hb dJ10_numberOfTrailingZeros_77 rfl ?_
            refine lv_iadd hx hb dJ10_numberOfTrailingZeros_78 ?_
            have e_ : jf_ntz i_ = 31 + ((v_32.toUInt32 >>> ((1 : Int32).toUInt32 &&& Int32.toUInt32 31)).toInt32) := by rw [jf_ntz, zlet_eq hv_1, if_pos c_2, if_neg c_3, zlet_eq hv_18, if_neg c_19, zlet_eq hv_26, if_neg c_27, zlet_eq hv_30, if_neg c_31, zlet_eq hv_32]
            exact zr_oi hx hb hr hlocks dJ10_numberOfTrailingZeros_79 (congrArg Value.int e_)
  · refine lv_iload_n hx hb dJ10_numberOfTrailingZeros_12 rfl (lv_at hl 0 rfl) ?_
    refine lv_bipush (v := 32) hx hb dJ10_numberOfTrailingZeros_13 (by decide) ?_
    refine lv_iand hx hb dJ10_numberOfTrailingZeros_15 ?_
    have e_ : jf_ntz i_ = v_1 &&& 32 := by rw [jf_ntz, zlet_eq hv_1, if_neg c_2]
    exact zr_oi hx hb hr hlocks dJ10_numberOfTrailingZeros_16 (congrArg Value.int e_)
def jf_signum (j_ : Int64) : Int32 :=
  (((j_ >>> ((63 : Int32).toInt64 &&& 63)) ||| (((-j_).toUInt64 >>> ((63 : Int32).toInt64.toUInt64 &&& Int64.toUInt64 63)).toInt64)).toInt32)
theorem hd_J12_signum : True ∧ yJ12_signum.cls ≠ "java/lang/invoke/MethodHandle" ∧ yJ12_signum.cls ≠ "java/lang/invoke/VarHandle" ∧ (parseMethodDescriptor yJ12_signum.desc).map (fun d => d.parameters.length) = some 1 := by decide +kernel
set_option maxHeartbeats 4000000 in
set_option maxRecDepth 100000 in
theorem mt_jf_signum (l : Launch) (j_ : Int64) : Met l yJ12_signum (ws_ yJ12_signum cJ12_signum 2 (some .int)) (zR 1 0 0) (zPp [.long j_]) (k2_QcV (.int (jf_signum j_))) 0 0 (fun _ => False) := by
  refine zr_entP (by decide) (Nat.le_of_ble_eq_true rfl) ?_
  intro p e s m below meth c ⟨hx, hb, hr, hml, hown, hts, hlocks, hnm⟩ ls hl
  have hown : s.vm.findClass RJ12 = some m.cls := hown
  have hl : lv_has ls 2 [(0, .long j_)] := hl
  refine lv_lload_n hx hb dJ12_signum_0 rfl (lv_at hl 0 rfl) ?_
  refine lv_bipush (v := 63) hx hb dJ12_signum_1 (by decide) ?_
  refine lv_lshr hx hb dJ12_signum_3 rfl ?_
  refine lv_lload_n hx hb dJ12_signum_4 rfl (lv_at hl 0 rfl) ?_
  refine lv_lneg hx hb dJ12_signum_5 ?_
  refine lv_bipush (v := 63) hx hb dJ12_signum_6 (by decide) ?_
  refine lv_lushr hx hb dJ12_signum_8 rfl ?_
  refine lv_lor hx hb dJ12_signum_9 ?_
  refine lv_l2i hx hb dJ12_signum_10 rfl ?_
  have e_ : jf_signum j_ = ((j_ >>> ((63 : Int32).toInt64 &&& 63)) ||| (((-j_).toUInt64 >>> ((63 : Int32).toInt64.toUInt64 &&& Int64.toUInt64 63)).toInt64)).toInt32 := by rw [jf_signum]
  exact zr_oi hx hb hr hlocks dJ12_signum_11 (congrArg Value.int e_)
