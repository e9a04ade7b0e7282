theorem xPlace_t {Wd R : Nat} {x y : Int32} (hW0 : 1 ≤ Wd) (hW5 : Wd ≤ 5) (hR0 : 1 ≤ R) (hR6 : R ≤ 6) (h : xf_isPlace Wd R x y = true) : (¬ x < 0 ∧ x.toNatClampNeg < Wd) ∧ (¬ y < 0 ∧ y.toNatClampNeg < R) := by
  unfold xf_isPlace at h
  by_cases c1 : xf_isIn x.toInt64 0 (((nI Wd) - 1).toInt64) = true
  · rw [if_pos c1] at h
    by_cases c2 : xf_isIn y.toInt64 0 (((nI R) - 1).toInt64) = true
    · exact ⟨xIn_1 (by omega) (by omega) c1, xIn_1 (by omega) (by omega) c2⟩
    · rw [if_neg c2] at h; cases h
  · rw [if_neg c1] at h; cases h
theorem xHouse_t {Wd R : Nat} {hs x y : Int32} (h : xf_whyNoHouse Wd R hs x y ≤ 0) : xf_isPlace Wd R x y = true := by
  unfold xf_whyNoHouse at h
  by_cases c1 : xf_isPlace Wd R x y = true
  · exact c1
  · rw [if_neg c1] at h; exact absurd h (by decide)
theorem xStuck_t {Wd R : Nat} {a b c x y : Int32} (h : xf_whyStuck Wd R a b c x y ≤ 0) : xf_isPlace Wd R x y = true := by
  unfold xf_whyStuck at h
  by_cases c1 : xf_isPlace Wd R x y = true
  · exact c1
  · rw [if_neg c1] at h; exact absurd h (by decide)
theorem xCell {Wd : Nat} {x y : Int32} (hx : ¬ x < 0) (hy : ¬ y < 0) : nI Wd * y + x = nI (Wd * y.toNatClampNeg + x.toNatClampNeg) := by
  obtain ⟨i, hi, rfl⟩ := nI_of hx
  obtain ⟨j, hj, rfl⟩ := nI_of hy
  rw [nI_clamp hi, nI_clamp hj, pk_mul, nI_add]
theorem xCell_lt {Wd R a b : Nat} (ha : a < Wd) (hb : b < R) : Wd * b + a < Wd * R := by
  have h1 : Wd * b + Wd ≤ Wd * R := by
    have := Nat.mul_le_mul_left Wd (show b + 1 ≤ R from hb)
    rw [Nat.mul_add, Nat.mul_one] at this
    exact this
  omega
def xf_lamp (ulit : Int32) (Wd : Nat) (R : Nat) (thouses : Int32) (talways : Int32) (tnever : Int32) (tbeside : Nat → Int32) (x : Int32) (y : Int32) (what : Int32) : Int32 × Int32 :=
  (if (xf_isIn what.toInt64 0 3) = true then
    (if (xf_whyNoHouse Wd R thouses x y) ≤ 0 then
      (if what = 0 then
        ((ulit >>> ((nI Wd * y + x) &&& 31)) &&& 1, xf_whyNoHouse Wd R thouses x y)
      else
        (if what = 1 then
          (nI (zpc (tbeside (Wd * y.toNatClampNeg + x.toNatClampNeg))), xf_whyNoHouse Wd R thouses x y)
        else
          (if what = 2 then
            (nI (zpc ((tbeside (Wd * y.toNatClampNeg + x.toNatClampNeg)) &&& ulit)), xf_whyNoHouse Wd R thouses x y)
          else
            (((talways ||| tnever) >>> ((nI Wd * y + x) &&& 31)) &&& 1, xf_whyNoHouse Wd R thouses x y))))
    else
      ((-1), xf_whyNoHouse Wd R thouses x y))
  else
    ((-1), 1))
theorem hd_X0_lamp : yX0_lamp.cls = RX0 ∧ yX0_lamp.cls ≠ "java/lang/invoke/MethodHandle" ∧ yX0_lamp.cls ≠ "java/lang/invoke/VarHandle" ∧ (parseMethodDescriptor yX0_lamp.desc).map (fun d => d.parameters.length) = some 3 := by decide +kernel
set_option maxHeartbeats 4000000 in
set_option maxRecDepth 100000 in
theorem mt_xf_lamp (l : Launch) (G : zG) (xA : Nat) (xa_trays : Nat) (xa_tape : Nat) (x_taped : Int32) (x_faultKind : Int32) (x_faultAt : Int32) (xa_bad : Nat) (xa_refused : Nat) (x_status : Int32) (x_above : Int64) (x_under : Int64) (nA : Nat) (xa_marks : Nat) (x_markMany : Int32) (xa_pictures : Nat) (x_lead : Int32) (x_round : Int32) (xa_ways : Nat) (x_bestSet : Int32) (x_bestMany : Int32) (x_left : Int32) (xa_aside : Nat) (xa_last : Nat) (x_hasLived : Bool) (uA : Nat) (n_year : Option Nat) (tA : Nat) (uA_bo : Nat) (uA_st : Nat) (uA_se : Nat) (ulit : Int32) (umayor : Int32) (unight : Int32) (uoil : Int32) (uborn : Nat → Int32) (ustays : Nat → Int32) (useen : Nat → Int32) (tA_be : Nat) (tA_le : Nat) (tA_mo : Nat) (tA_rn : Nat) (tA_cn : Nat) (tA_bo : Nat) (tA_st : Nat) (Wd : Nat) (R : Nat) (thouses : Int32) (talways : Int32) (tnever : Int32) (nr : Nat) (nc : Nat) (tring : Bool) (tbeside : Nat → Int32) (tleast : Nat → Int32) (tmost : Nat → Int32) (trnames : Nat → Int64) (x : Int32) (y : Int32) (what : Int32) (hT : tOK Wd R nr nc) (sz : Nat) : Met l yX0_lamp (ws_ yX0_lamp cX0_lamp 5 (some .int)) (zR 4 0 0) (zPm G sz [.ref xA, .int x, .int y, .int what] ((xA_ G xA xa_trays xa_tape x_taped x_faultKind x_faultAt xa_bad xa_refused x_status x_above x_under nA xa_marks x_markMany xa_pictures x_lead x_round xa_ways x_bestSet x_bestMany x_left xa_aside xa_last x_hasLived uA n_year) ++ (hW G uA tA uA_bo uA_st uA_se ulit umayor unight uoil uborn ustays useen) ++ (tW G tA tA_be tA_le tA_mo tA_rn tA_cn tA_bo tA_st (nI Wd) (nI R) thouses talways tnever (nI nr) (nI nc) tring tbeside tleast tmost trnames))) (zQm G (True) (some (.int ((xf_lamp ulit Wd R thouses talways tnever tbeside x y what).1))) ((xA_ G xA xa_trays xa_tape x_taped x_faultKind x_faultAt xa_bad xa_refused ((xf_lamp ulit Wd R thouses talways tnever tbeside x y what).2) x_above x_under nA xa_marks x_markMany xa_pictures x_lead x_round xa_ways x_bestSet x_bestMany x_left xa_aside xa_last x_hasLived uA n_year) ++ (hW G uA tA uA_bo uA_st uA_se ulit umayor unight uoil uborn ustays useen) ++ (tW G tA tA_be tA_le tA_mo tA_rn tA_cn tA_bo tA_st (nI Wd) (nI R) thouses talways tnever (nI nr) (nI nc) tring tbeside tleast tmost trnames)) (va_A ((xA_ G xA xa_trays xa_tape x_taped x_faultKind x_faultAt xa_bad xa_refused x_status x_above x_under nA xa_marks x_markMany xa_pictures x_lead x_round xa_ways x_bestSet x_bestMany x_left xa_aside xa_last x_hasLived uA n_year) ++ (hW G uA tA uA_bo uA_st uA_se ulit umayor unight uoil uborn ustays useen) ++ (tW G tA tA_be tA_le tA_mo tA_rn tA_cn tA_bo tA_st (nI Wd) (nI R) thouses talways tnever (nI nr) (nI nc) tring tbeside tleast tmost trnames)) sz)) 0 0 (va_A ((xA_ G xA xa_trays xa_tape x_taped x_faultKind x_faultAt xa_bad xa_refused x_status x_above x_under nA xa_marks x_markMany xa_pictures x_lead x_round xa_ways x_bestSet x_bestMany x_left xa_aside xa_last x_hasLived uA n_year) ++ (hW G uA tA uA_bo uA_st uA_se ulit umayor unight uoil uborn ustays useen) ++ (tW G tA tA_be tA_le tA_mo tA_rn tA_cn tA_bo tA_st (nI Wd) (nI R) thouses talways tnever (nI nr) (nI nc) tring tbeside tleast tmost trnames)) sz) := by
  refine zr_entM (by decide) (Nat.le_of_ble_eq_true rfl) ?_
  intro p e s m below meth c ⟨hx, hb, hr, hml, hown, hts, hlocks, hnm⟩ ls hl hP hK A hE hA hD hS
  have hown : s.vm.findClass RX0 = some m.cls := hown
  have hl : lv_has ls 5 [(0, .ref xA), (1, .int x), (2, .int y), (3, .int what)] := hl
  obtain ⟨H, hH⟩ : ∃ H, H = s.heap := ⟨_, rfl⟩
  obtain ⟨locs, hlo⟩ : ∃ L : List Loc, L = [] := ⟨_, rfl⟩
  rw [← hH] at hP
  have hS : va_S A s.heap H locs := by rw [hH, hlo]; exact va_S.rf
  have hgo : W p l e (zR 4 0 0) s m ([.ref xA, .int x, .int y, .int what] : List Value).toArray below meth c H locs 0 0 (MQ below (zQm G (True) (some (.int ((xf_lamp ulit Wd R thouses talways tnever tbeside x y what).1))) ((xA_ G xA xa_trays xa_tape x_taped x_faultKind x_faultAt xa_bad xa_refused ((xf_lamp ulit Wd R thouses talways tnever tbeside x y what).2) x_above x_under nA xa_marks x_markMany xa_pictures x_lead x_round xa_ways x_bestSet x_bestMany x_left xa_aside xa_last x_hasLived uA n_year) ++ (hW G uA tA uA_bo uA_st uA_se ulit umayor unight uoil uborn ustays useen) ++ (tW G tA tA_be tA_le tA_mo tA_rn tA_cn tA_bo tA_st (nI Wd) (nI R) thouses talways tnever (nI nr) (nI nc) tring tbeside tleast tmost trnames)) A) ([.ref xA, .int x, .int y, .int what] : List Value).toArray s 0 0 A) (F0 m 0 ls []) := ?_
  · rw [hH, hlo] at hgo; exact hgo
  clear hH hlo
  have hTT := hT
  obtain ⟨hW0, hW5, hR0, hR6, hn4, hc6, hWR⟩ := hTT
  refine lv_aload_n hx hb dX0_lamp_0 rfl (lv_at hl 0 rfl) ?_
  refine lv_iload_n hx hb dX0_lamp_1 rfl (lv_at hl 3 rfl) ?_
  refine lv_i2l hx hb dX0_lamp_2 rfl ?_
  refine lv_lconst (v := 0) hx hb dX0_lamp_3 rfl ?_
  refine lv_ldc2 (v := 3) hx hb hown (hts _ q989) dX0_lamp_4 ?_
  refine zr_puS ⟨hx, hb, hml, hown, hts⟩ (mt_xf_isIn l what.toInt64 0 3) (va_cwS 3 hts (lw_S q969 q970 q135 q971) rfl rfl rfl hd_X0_isIn.2 ⟨(Nat.le_of_ble_eq_true rfl), (Nat.le_of_ble_eq_true rfl)⟩) rfl hl.1 rfl (Nat.le_of_ble_eq_true rfl) dX0_lamp_7 ⟨Nat.le_refl _, Nat.le_refl _⟩ ?_
  refine zr_neB (xf_isIn what.toInt64 0 3) (tgt := 17) hx hb dX0_lamp_10 (by decide) (fun c_1 => ?_) (fun c_1 => ?_)
  · refine lv_aload_n hx hb dX0_lamp_17 rfl (lv_at hl 0 rfl) ?_
    refine lv_iload_n hx hb dX0_lamp_18 rfl (lv_at hl 1 rfl) ?_
    refine lv_iload_n hx hb dX0_lamp_19 rfl (lv_at hl 2 rfl) ?_
    refine zr_obV ⟨hx, hb, hml, hown, hts⟩ (mt_xf_whyNoHouse l G xA xa_trays xa_tape x_taped x_faultKind x_faultAt xa_bad xa_refused x_status x_above x_under nA xa_marks x_markMany xa_pictures x_lead x_round xa_ways x_bestSet x_bestMany x_left xa_aside xa_last x_hasLived uA n_year tA uA_bo uA_st uA_se ulit umayor unight uoil uborn ustays useen tA_be tA_le tA_mo tA_rn tA_cn tA_bo tA_st Wd R thouses talways tnever nr nc tring tbeside tleast tmost trnames x y hT) (cwV 2 hts (lw_V q990 q992 qs35 q135 q993) rfl rfl rfl hd_X0_whyNoHouse ⟨(Nat.le_of_ble_eq_true rfl), (Nat.le_of_ble_eq_true rfl)⟩) hP hK (zE_o hE hS) 0 0 rfl rfl rfl hl.1 rfl (Nat.le_of_ble_eq_true rfl) dX0_lamp_20 ⟨Nat.le_refl _, Nat.le_refl _⟩ ?_
    refine va_put (D := G.1) (ci := 0) (v := .int (xf_whyNoHouse Wd R thouses x y)) (ty := .int) (C := RX0) (T := TX0) (N := 23) hx hb hts in_X0 tyX0 tyX0_ok nmX0 hown hK.1 hP hD hS 0 rfl rfl 7 (Nat.le_of_ble_eq_true rfl) (hts _ q432) (fun _ h => h) rfl (tyX0_ok 7 (Nat.le_of_ble_eq_true rfl)) rfl rfl (Nat.le_of_ble_eq_true rfl) dX0_lamp_23 (fun H locs hP hD hS => ?_)
    have hP : va_P G.1 zcl ((xA_ G xA xa_trays xa_tape x_taped x_faultKind x_faultAt xa_bad xa_refused (xf_whyNoHouse Wd R thouses x y) x_above x_under nA xa_marks x_markMany xa_pictures x_lead x_round xa_ways x_bestSet x_bestMany x_left xa_aside xa_last x_hasLived uA n_year) ++ (hW G uA tA uA_bo uA_st uA_se ulit umayor unight uoil uborn ustays useen) ++ (tW G tA tA_be tA_le tA_mo tA_rn tA_cn tA_bo tA_st (nI Wd) (nI R) thouses talways tnever (nI nr) (nI nc) tring tbeside tleast tmost trnames)) H := hP
    have hD : va_D A ((xA_ G xA xa_trays xa_tape x_taped x_faultKind x_faultAt xa_bad xa_refused (xf_whyNoHouse Wd R thouses x y) x_above x_under nA xa_marks x_markMany xa_pictures x_lead x_round xa_ways x_bestSet x_bestMany x_left xa_aside xa_last x_hasLived uA n_year) ++ (hW G uA tA uA_bo uA_st uA_se ulit umayor unight uoil uborn ustays useen) ++ (tW G tA tA_be tA_le tA_mo tA_rn tA_cn tA_bo tA_st (nI Wd) (nI R) thouses talways tnever (nI nr) (nI nc) tring tbeside tleast tmost trnames)) := hD
    refine lv_aload_n hx hb dX0_lamp_26 rfl (lv_at hl 0 rfl) ?_
    refine va_get (D := G.1) (ci := 0) (v := .int (xf_whyNoHouse Wd R thouses x y)) (C := RX0) (T := TX0) (N := 23) hx hb hts in_X0 hown hK.1 hP 0 rfl rfl 7 (Nat.le_of_ble_eq_true rfl) (hts _ q432) (fun _ h => h) rfl dX0_lamp_27 ?_
    refine lv_if_le (tgt := 35) hx hb dX0_lamp_30 (by decide) (fun c_2 => ?_) (fun c_2 => ?_)
    · obtain ⟨⟨hx0, hx1⟩, ⟨hy0, hy1⟩⟩ := xPlace_t hW0 hW5 hR0 hR6 (xHouse_t c_2)
      have hcl := xCell_lt hx1 hy1
      refine lv_aload_n hx hb dX0_lamp_35 rfl (lv_at hl 0 rfl) ?_
      refine zr_obV ⟨hx, hb, hml, hown, hts⟩ (mt_xf_at l G xA xa_trays xa_tape x_taped x_faultKind x_faultAt xa_bad xa_refused (xf_whyNoHouse Wd R thouses x y) x_above x_under nA xa_marks x_markMany xa_pictures x_lead x_round xa_ways x_bestSet x_bestMany x_left xa_aside xa_last x_hasLived uA n_year tA uA_bo uA_st uA_se ulit umayor unight uoil uborn ustays useen tA_be tA_le tA_mo tA_rn tA_cn tA_bo tA_st Wd R thouses talways tnever nr nc tring tbeside tleast tmost trnames hT) (cwV 0 hts (lw_V q891 q893 qs28 q135 q894) rfl rfl rfl hd_X0_at ⟨(Nat.le_of_ble_eq_true rfl), (Nat.le_of_ble_eq_true rfl)⟩) hP hK (zE_o hE hS) 0 0 rfl rfl rfl hl.1 rfl (Nat.le_of_ble_eq_true rfl) dX0_lamp_36 ⟨Nat.le_refl _, Nat.le_refl _⟩ ?_
      refine lv_iload_n hx hb dX0_lamp_39 rfl (lv_at hl 1 rfl) ?_
      refine lv_iload_n hx hb dX0_lamp_40 rfl (lv_at hl 2 rfl) ?_
      refine zr_obV ⟨hx, hb, hml, hown, hts⟩ (mt_tf_cell l G tA tA_be tA_le tA_mo tA_rn tA_cn tA_bo tA_st Wd R thouses talways tnever (nI nr) (nI nc) tring tbeside tleast tmost trnames x y) (cwV 2 hts (lw_V q998 q764 q765 q143 q766) rfl rfl rfl hd_X6_cell ⟨(Nat.le_of_ble_eq_true rfl), (Nat.le_of_ble_eq_true rfl)⟩) (zP_sub hP (ws' := (tW G tA tA_be tA_le tA_mo tA_rn tA_cn tA_bo tA_st (nI Wd) (nI R) thouses talways tnever (nI nr) (nI nc) tring tbeside tleast tmost trnames)) [6, 7, 8, 9, 10] rfl) hK (zE_o hE hS) 0 6 rfl rfl rfl hl.1 rfl (Nat.le_of_ble_eq_true rfl) dX0_lamp_41 ⟨Nat.le_refl _, Nat.le_refl _⟩ ?_
      refine lv_istore (lv' := [(4, .int (nI Wd * y + x)), (0, .ref xA), (1, .int x), (2, .int y), (3, .int what)]) hx hb dX0_lamp_44 hl (by decide) rfl (fun ls hl => ?_)
      refine lv_iload_n hx hb dX0_lamp_46 rfl (lv_at hl 4 rfl) ?_
      rcases Classical.em (what = 0) with c_3 | c_3
      · refine lv_tableIn (off := 25) (tgt := 72) hx hb dX0_lamp_47 (by rw [c_3]; decide) (by rw [c_3]; decide) (by rw [c_3]; rfl) (by decide) ?_
        refine lv_aload_n hx hb dX0_lamp_72 rfl (lv_at hl 1 rfl) ?_
        refine zr_obV ⟨hx, hb, hml, hown, hts⟩ (mt_xf_hill l G xA xa_trays xa_tape x_taped x_faultKind x_faultAt xa_bad xa_refused (xf_whyNoHouse Wd R thouses x y) x_above x_under nA xa_marks x_markMany xa_pictures x_lead x_round xa_ways x_bestSet x_bestMany x_left xa_aside xa_last x_hasLived uA n_year tA uA_bo uA_st uA_se ulit umayor unight uoil uborn ustays useen tA_be tA_le tA_mo tA_rn tA_cn tA_bo tA_st Wd R thouses talways tnever nr nc tring tbeside tleast tmost trnames hT) (cwV 0 hts (lw_V q841 q843 qs26 q135 q844) rfl rfl rfl hd_X0_hill ⟨(Nat.le_of_ble_eq_true rfl), (Nat.le_of_ble_eq_true rfl)⟩) hP hK (zE_o hE hS) 0 0 rfl rfl rfl hl.1 rfl (Nat.le_of_ble_eq_true rfl) dX0_lamp_73 ⟨Nat.le_refl _, Nat.le_refl _⟩ ?_
        refine va_getN (D := G.1) (ci := 5) (v := .int ulit) (C := RX5) (T := TX5) (N := 8) hx hb hts in_X5 hown hK.1 hP 2 rfl rfl 4 (Nat.le_of_ble_eq_true rfl) ((hK.2.1.1 _ (List.mem_of_getElem? (i := 14) rfl)).use rfl) (fun _ h => h) rfl dX0_lamp_76 ?_
        refine lv_iload hx hb dX0_lamp_79 (lv_at hl 0 rfl) ?_
        refine lv_ishr hx hb dX0_lamp_81 ?_
        refine lv_iconst (v := 1) hx hb dX0_lamp_82 (by decide) ?_
        refine lv_iand hx hb dX0_lamp_83 ?_
        have e_ : xf_lamp ulit Wd R thouses talways tnever tbeside x y what = ((ulit >>> ((nI Wd * y + x) &&& 31)) &&& 1, xf_whyNoHouse Wd R thouses x y) := by rw [xf_lamp, if_pos c_1, if_pos c_2, if_pos c_3]
        exact zr_mi hx hb hr hlocks hP hD hS dX0_lamp_84 (by rw [e_])  (by rw [e_]) trivial
      · rcases Classical.em (what = 1) with c_4 | c_4
        · refine lv_tableIn (off := 38) (tgt := 85) hx hb dX0_lamp_47 (by rw [c_4]; decide) (by rw [c_4]; decide) (by rw [c_4]; rfl) (by decide) ?_
          refine lv_aload_n hx hb dX0_lamp_85 rfl (lv_at hl 1 rfl) ?_
          refine zr_obV ⟨hx, hb, hml, hown, hts⟩ (mt_xf_at l G xA xa_trays xa_tape x_taped x_faultKind x_faultAt xa_bad xa_refused (xf_whyNoHouse Wd R thouses x y) x_above x_under nA xa_marks x_markMany xa_pictures x_lead x_round xa_ways x_bestSet x_bestMany x_left xa_aside xa_last x_hasLived uA n_year tA uA_bo uA_st uA_se ulit umayor unight uoil uborn ustays useen tA_be tA_le tA_mo tA_rn tA_cn tA_bo tA_st Wd R thouses talways tnever nr nc tring tbeside tleast tmost trnames hT) (cwV 0 hts (lw_V q891 q893 qs28 q135 q894) rfl rfl rfl hd_X0_at ⟨(Nat.le_of_ble_eq_true rfl), (Nat.le_of_ble_eq_true rfl)⟩) hP hK (zE_o hE hS) 0 0 rfl rfl rfl hl.1 rfl (Nat.le_of_ble_eq_true rfl) dX0_lamp_86 ⟨Nat.le_refl _, Nat.le_refl _⟩ ?_
          refine va_getN (D := G.1) (ci := 6) (v := .ref tA_be) (C := RX6) (T := TX6) (N := 15) hx hb hts in_X6 hown hK.1 hP 6 rfl rfl 8 (Nat.le_of_ble_eq_true rfl) ((hK.2.1.1 _ (List.mem_of_getElem? (i := 18) rfl)).use rfl) (fun _ h => h) rfl dX0_lamp_89 ?_
          refine lv_iload hx hb dX0_lamp_92 (lv_at hl 0 rfl) ?_
          refine zr_iald (Wd * y.toNatClampNeg + x.toNatClampNeg) (v := tbeside (Wd * y.toNatClampNeg + x.toNatClampNeg)) hx hb hK hP 7 rfl rfl (Nat.le_of_ble_eq_true rfl) (xCell hx0 hy0) (by omega) rfl dX0_lamp_94 ?_
          refine zr_puS ⟨hx, hb, hml, hown, hts⟩ (mt_xf_many l (tbeside (Wd * y.toNatClampNeg + x.toNatClampNeg))) (va_cwS 1 hts (lw_S q850 q851 q135 q852) rfl rfl rfl hd_X0_many.2 ⟨(Nat.le_of_ble_eq_true rfl), (Nat.le_of_ble_eq_true rfl)⟩) rfl hl.1 rfl (Nat.le_of_ble_eq_true rfl) dX0_lamp_95 ⟨Nat.le_refl _, Nat.le_refl _⟩ ?_
          have e_ : xf_lamp ulit Wd R thouses talways tnever tbeside x y what = (nI (zpc (tbeside (Wd * y.toNatClampNeg + x.toNatClampNeg))), xf_whyNoHouse Wd R thouses x y) := by rw [xf_lamp, if_pos c_1, if_pos c_2, if_neg c_3, if_pos c_4]
          exact zr_mi hx hb hr hlocks hP hD hS dX0_lamp_98 (by rw [e_])  (by rw [e_]) trivial
        · rcases Classical.em (what = 2) with c_5 | c_5
          · refine lv_tableIn (off := 52) (tgt := 99) hx hb dX0_lamp_47 (by rw [c_5]; decide) (by rw [c_5]; decide) (by rw [c_5]; rfl) (by decide) ?_
            refine lv_aload_n hx hb dX0_lamp_99 rfl (lv_at hl 1 rfl) ?_
            refine zr_obV ⟨hx, hb, hml, hown, hts⟩ (mt_xf_at l G xA xa_trays xa_tape x_taped x_faultKind x_faultAt xa_bad xa_refused (xf_whyNoHouse Wd R thouses x y) x_above x_under nA xa_marks x_markMany xa_pictures x_lead x_round xa_ways x_bestSet x_bestMany x_left xa_aside xa_last x_hasLived uA n_year tA uA_bo uA_st uA_se ulit umayor unight uoil uborn ustays useen tA_be tA_le tA_mo tA_rn tA_cn tA_bo tA_st Wd R thouses talways tnever nr nc tring tbeside tleast tmost trnames hT) (cwV 0 hts (lw_V q891 q893 qs28 q135 q894) rfl rfl rfl hd_X0_at ⟨(Nat.le_of_ble_eq_true rfl), (Nat.le_of_ble_eq_true rfl)⟩) hP hK (zE_o hE hS) 0 0 rfl rfl rfl hl.1 rfl (Nat.le_of_ble_eq_true rfl) dX0_lamp_100 ⟨Nat.le_refl _, Nat.le_refl _⟩ ?_
            refine va_getN (D := G.1) (ci := 6) (v := .ref tA_be) (C := RX6) (T := TX6) (N := 15) hx hb hts in_X6 hown hK.1 hP 6 rfl rfl 8 (Nat.le_of_ble_eq_true rfl) ((hK.2.1.1 _ (List.mem_of_getElem? (i := 18) rfl)).use rfl) (fun _ h => h) rfl dX0_lamp_103 ?_
            refine lv_iload hx hb dX0_lamp_106 (lv_at hl 0 rfl) ?_
            refine zr_iald (Wd * y.toNatClampNeg + x.toNatClampNeg) (v := tbeside (Wd * y.toNatClampNeg + x.toNatClampNeg)) hx hb hK hP 7 rfl rfl (Nat.le_of_ble_eq_true rfl) (xCell hx0 hy0) (by omega) rfl dX0_lamp_108 ?_
            refine lv_aload_n hx hb dX0_lamp_109 rfl (lv_at hl 1 rfl) ?_
            refine zr_obV ⟨hx, hb, hml, hown, hts⟩ (mt_xf_hill l G xA xa_trays xa_tape x_taped x_faultKind x_faultAt xa_bad xa_refused (xf_whyNoHouse Wd R thouses x y) x_above x_under nA xa_marks x_markMany xa_pictures x_lead x_round xa_ways x_bestSet x_bestMany x_left xa_aside xa_last x_hasLived uA n_year tA uA_bo uA_st uA_se ulit umayor unight uoil uborn ustays useen tA_be tA_le tA_mo tA_rn tA_cn tA_bo tA_st Wd R thouses talways tnever nr nc tring tbeside tleast tmost trnames hT) (cwV 0 hts (lw_V q841 q843 qs26 q135 q844) rfl rfl rfl hd_X0_hill ⟨(Nat.le_of_ble_eq_true rfl), (Nat.le_of_ble_eq_true rfl)⟩) hP hK (zE_o hE hS) 0 0 rfl rfl rfl hl.1 rfl (Nat.le_of_ble_eq_true rfl) dX0_lamp_110 ⟨Nat.le_refl _, Nat.le_refl _⟩ ?_
            refine va_getN (D := G.1) (ci := 5) (v := .int ulit) (C := RX5) (T := TX5) (N := 8) hx hb hts in_X5 hown hK.1 hP 2 rfl rfl 4 (Nat.le_of_ble_eq_true rfl) ((hK.2.1.1 _ (List.mem_of_getElem? (i := 14) rfl)).use rfl) (fun _ h => h) rfl dX0_lamp_113 ?_
            refine lv_iand hx hb dX0_lamp_116 ?_
            refine zr_puS ⟨hx, hb, hml, hown, hts⟩ (mt_xf_many l ((tbeside (Wd * y.toNatClampNeg + x.toNatClampNeg)) &&& ulit)) (va_cwS 1 hts (lw_S q850 q851 q135 q852) rfl rfl rfl hd_X0_many.2 ⟨(Nat.le_of_ble_eq_true rfl), (Nat.le_of_ble_eq_true rfl)⟩) rfl hl.1 rfl (Nat.le_of_ble_eq_true rfl) dX0_lamp_117 ⟨Nat.le_refl _, Nat.le_refl _⟩ ?_
            have e_ : xf_lamp ulit Wd R thouses talways tnever tbeside x y what = (nI (zpc ((tbeside (Wd * y.toNatClampNeg + x.toNatClampNeg)) &&& ulit)), xf_whyNoHouse Wd R thouses x y) := by rw [xf_lamp, if_pos c_1, if_pos c_2, if_neg c_3, if_neg c_4, if_pos c_5]
            exact zr_mi hx hb hr hlocks hP hD hS dX0_lamp_120 (by rw [e_])  (by rw [e_]) trivial
          · refine lv_tableOut (tgt := 121) hx hb dX0_lamp_47 (z_out what (lo := 0) (hi := 2) (fun z h1 h2 => have h3 : z = 0 ∨ z = 1 ∨ z = 2 := (by omega); (h3.elim (fun h3 => z_outq c_3 (by decide) h3) (fun h3 => (h3.elim (fun h3 => z_outq c_4 (by decide) h3) (fun h3 => (z_outq c_5 (by decide) h3))))))) (by decide) ?_
            refine lv_aload_n hx hb dX0_lamp_121 rfl (lv_at hl 1 rfl) ?_
            refine zr_obV ⟨hx, hb, hml, hown, hts⟩ (mt_xf_at l G xA xa_trays xa_tape x_taped x_faultKind x_faultAt xa_bad xa_refused (xf_whyNoHouse Wd R thouses x y) x_above x_under nA xa_marks x_markMany xa_pictures x_lead x_round xa_ways x_bestSet x_bestMany x_left xa_aside xa_last x_hasLived uA n_year tA uA_bo uA_st uA_se ulit umayor unight uoil uborn ustays useen tA_be tA_le tA_mo tA_rn tA_cn tA_bo tA_st Wd R thouses talways tnever nr nc tring tbeside tleast tmost trnames hT) (cwV 0 hts (lw_V q891 q893 qs28 q135 q894) rfl rfl rfl hd_X0_at ⟨(Nat.le_of_ble_eq_true rfl), (Nat.le_of_ble_eq_true rfl)⟩) hP hK (zE_o hE hS) 0 0 rfl rfl rfl hl.1 rfl (Nat.le_of_ble_eq_true rfl) dX0_lamp_122 ⟨Nat.le_refl _, Nat.le_refl _⟩ ?_
            refine zr_obV ⟨hx, hb, hml, hown, hts⟩ (mt_tf_stuck l G tA tA_be tA_le tA_mo tA_rn tA_cn tA_bo tA_st Wd R thouses talways tnever (nI nr) (nI nc) tring tbeside tleast tmost trnames) (cwV 0 hts (lw_V q972 q973 q974 q143 q975) rfl rfl rfl hd_X6_stuck ⟨(Nat.le_of_ble_eq_true rfl), (Nat.le_of_ble_eq_true rfl)⟩) (zP_sub hP (ws' := (tW G tA tA_be tA_le tA_mo tA_rn tA_cn tA_bo tA_st (nI Wd) (nI R) thouses talways tnever (nI nr) (nI nc) tring tbeside tleast tmost trnames)) [6, 7, 8, 9, 10] rfl) hK (zE_o hE hS) 0 6 rfl rfl rfl hl.1 rfl (Nat.le_of_ble_eq_true rfl) dX0_lamp_125 ⟨Nat.le_refl _, Nat.le_refl _⟩ ?_
            refine lv_iload hx hb dX0_lamp_128 (lv_at hl 0 rfl) ?_
            refine lv_ishr hx hb dX0_lamp_130 ?_
            refine lv_iconst (v := 1) hx hb dX0_lamp_131 (by decide) ?_
            refine lv_iand hx hb dX0_lamp_132 ?_
            have e_ : xf_lamp ulit Wd R thouses talways tnever tbeside x y what = (((talways ||| tnever) >>> ((nI Wd * y + x) &&& 31)) &&& 1, xf_whyNoHouse Wd R thouses x y) := by rw [xf_lamp, if_pos c_1, if_pos c_2, if_neg c_3, if_neg c_4, if_neg c_5]
            exact zr_mi hx hb hr hlocks hP hD hS dX0_lamp_133 (by rw [e_])  (by rw [e_]) trivial
    · refine lv_iconst (v := (-1)) hx hb dX0_lamp_33 (by decide) ?_
      have e_ : xf_lamp ulit Wd R thouses talways tnever tbeside x y what = ((-1), xf_whyNoHouse Wd R thouses x y) := by rw [xf_lamp, if_pos c_1, if_neg c_2]
      exact zr_mi hx hb hr hlocks hP hD hS dX0_lamp_34 (by rw [e_])  (by rw [e_]) trivial
  · refine lv_iconst (v := 1) hx hb dX0_lamp_13 (by decide) ?_
    refine lv_goto (tgt := 23) hx hb dX0_lamp_14 (by decide) ?_
    refine va_put (D := G.1) (ci := 0) (v := .int 1) (ty := .int) (C := RX0) (T := TX0) (N := 23) hx hb hts in_X0 tyX0 tyX0_ok nmX0 hown hK.1 hP hD hS 0 rfl rfl 7 (Nat.le_of_ble_eq_true rfl) (hts _ q432) (fun _ h => h) rfl (tyX0_ok 7 (Nat.le_of_ble_eq_true rfl)) rfl rfl (Nat.le_of_ble_eq_true rfl) dX0_lamp_23 (fun H locs hP hD hS => ?_)
    have hP : va_P G.1 zcl ((xA_ G xA xa_trays xa_tape x_taped x_faultKind x_faultAt xa_bad xa_refused 1 x_above x_under nA xa_marks x_markMany xa_pictures x_lead x_round xa_ways x_bestSet x_bestMany x_left xa_aside xa_last x_hasLived uA n_year) ++ (hW G uA tA uA_bo uA_st uA_se ulit umayor unight uoil uborn ustays useen) ++ (tW G tA tA_be tA_le tA_mo tA_rn tA_cn tA_bo tA_st (nI Wd) (nI R) thouses talways tnever (nI nr) (nI nc) tring tbeside tleast tmost trnames)) H := hP
    have hD : va_D A ((xA_ G xA xa_trays xa_tape x_taped x_faultKind x_faultAt xa_bad xa_refused 1 x_above x_under nA xa_marks x_markMany xa_pictures x_lead x_round xa_ways x_bestSet x_bestMany x_left xa_aside xa_last x_hasLived uA n_year) ++ (hW G uA tA uA_bo uA_st uA_se ulit umayor unight uoil uborn ustays useen) ++ (tW G tA tA_be tA_le tA_mo tA_rn tA_cn tA_bo tA_st (nI Wd) (nI R) thouses talways tnever (nI nr) (nI nc) tring tbeside tleast tmost trnames)) := hD
    refine lv_aload_n hx hb dX0_lamp_26 rfl (lv_at hl 0 rfl) ?_
    refine va_get (D := G.1) (ci := 0) (v := .int 1) (C := RX0) (T := TX0) (N := 23) hx hb hts in_X0 hown hK.1 hP 0 rfl rfl 7 (Nat.le_of_ble_eq_true rfl) (hts _ q432) (fun _ h => h) rfl dX0_lamp_27 ?_
    refine lv_if_le (tgt := 35) hx hb dX0_lamp_30 (by decide) (fun z => absurd z (by decide)) (fun _ => ?_)
    refine lv_iconst (v := (-1)) hx hb dX0_lamp_33 (by decide) ?_
    have e_ : xf_lamp ulit Wd R thouses talways tnever tbeside x y what = ((-1), 1) := by rw [xf_lamp, if_neg c_1]
    exact zr_mi hx hb hr hlocks hP hD hS dX0_lamp_34 (by rw [e_])  (by rw [e_]) trivial
def xf_heapOf_B16 (ulit : Int32) (Wd : Nat) (R : Nat) (tbeside : Nat → Int32) (s_1 : Int32 × Int32) (k_3 : Nat) (s_3 : Int32) : Int32 :=
  (if ((s_1.1 >>> ((nI k_3) &&& 31)) &&& 1) = 1 then
    s_3 ||| ((tbeside k_3) &&& ulit)
  else
    s_3)
def xf_heapOf_L16 (ulit : Int32) (Wd : Nat) (R : Nat) (tbeside : Nat → Int32) (s_1 : Int32 × Int32) (s_3 : Int32) : Int32 := zf (xf_heapOf_B16 ulit Wd R tbeside s_1) s_3 (Wd * R)
def xf_heapOf_B6 (ulit : Int32) (Wd : Nat) (R : Nat) (tbeside : Nat → Int32) (kk : Int32) (s_1 : Int32 × Int32) : (Int32 × Int32) ⊕ (Int32 × Int32) :=
  (if s_1.1 = s_1.2 then
    .inr (s_1.1, s_1.2)
  else
    zlet (xf_heapOf_L16 ulit Wd R tbeside s_1 s_1.1) (fun s_3 =>
    .inl (s_3, s_1.1)))
def xf_heapOf_L6 (ulit : Int32) (Wd : Nat) (R : Nat) (tbeside : Nat → Int32) (kk : Int32) (s_1 : Int32 × Int32) : Int32 × Int32 := zw (xf_heapOf_B6 ulit Wd R tbeside kk) (s_1) ((32 - zpc s_1.1 + (if s_1.1 = s_1.2 then 0 else 1)) + 1) s_1
def xf_heapOf (ulit : Int32) (Wd : Nat) (R : Nat) (tbeside : Nat → Int32) (kk : Int32) : Int32 :=
  zlet (xf_heapOf_L6 ulit Wd R tbeside kk ((1 : Int32) <<< (kk &&& 31), 0)) (fun t_1 =>
  t_1.2)
theorem hd_X0_heapOf : yX0_heapOf.cls = RX0 ∧ yX0_heapOf.cls ≠ "java/lang/invoke/MethodHandle" ∧ yX0_heapOf.cls ≠ "java/lang/invoke/VarHandle" ∧ (parseMethodDescriptor yX0_heapOf.desc).map (fun d => d.parameters.length) = some 1 := by decide +kernel
set_option maxHeartbeats 4000000 in
set_option maxRecDepth 100000 in
theorem mt_xf_heapOf (l : Launch) (G : zG) (xA : Nat) (xa_trays : Nat) (xa_tape : Nat) (x_taped : Int32) (x_faultKind : Int32) (x_faultAt : Int32) (xa_bad : Nat) (xa_refused : Nat) (x_status : Int32) (x_above : Int64) (x_under : Int64) (nA : Nat) (xa_marks : Nat) (x_markMany : Int32) (xa_pictures : Nat) (x_lead : Int32) (x_round : Int32) (xa_ways : Nat) (x_bestSet : Int32) (x_bestMany : Int32) (x_left : Int32) (xa_aside : Nat) (xa_last : Nat) (x_hasLived : Bool) (uA : Nat) (n_year : Option Nat) (tA : Nat) (uA_bo : Nat) (uA_st : Nat) (uA_se : Nat) (ulit : Int32) (umayor : Int32) (unight : Int32) (uoil : Int32) (uborn : Nat → Int32) (ustays : Nat → Int32) (useen : Nat → Int32) (tA_be : Nat) (tA_le : Nat) (tA_mo : Nat) (tA_rn : Nat) (tA_cn : Nat) (tA_bo : Nat) (tA_st : Nat) (Wd : Nat) (R : Nat) (thouses : Int32) (talways : Int32) (tnever : Int32) (nr : Nat) (nc : Nat) (tring : Bool) (tbeside : Nat → Int32) (tleast : Nat → Int32) (tmost : Nat → Int32) (trnames : Nat → Int64) (kk : Int32) (hT : tOK Wd R nr nc) : Met l yX0_heapOf (ws_ yX0_heapOf cX0_heapOf 5 (some .int)) (zR 2 0 0) (zPo G [.ref xA, .int kk] ((xA_ G xA xa_trays xa_tape x_taped x_faultKind x_faultAt xa_bad xa_refused x_status x_above x_under nA xa_marks x_markMany xa_pictures x_lead x_round xa_ways x_bestSet x_bestMany x_left xa_aside xa_last x_hasLived uA n_year) ++ (hW G uA tA uA_bo uA_st uA_se ulit umayor unight uoil uborn ustays useen) ++ (tW G tA tA_be tA_le tA_mo tA_rn tA_cn tA_bo tA_st (nI Wd) (nI R) thouses talways tnever (nI nr) (nI nc) tring tbeside tleast tmost trnames))) (k2_QcV (.int (xf_heapOf ulit Wd R tbeside kk))) 0 0 (fun _ => False) := by
  refine zr_entO (by decide) (Nat.le_of_ble_eq_true rfl) ?_
  intro p e s m below meth c ⟨hx, hb, hr, hml, hown, hts, hlocks, hnm⟩ ls hl hP hK hE
  have hown : s.vm.findClass RX0 = some m.cls := hown
  have hl : lv_has ls 5 [(0, .ref xA), (1, .int kk)] := hl
  have hTT := hT
  obtain ⟨hW0, hW5, hR0, hR6, hn4, hc6, hWR⟩ := hTT
  refine lv_iconst (v := 0) hx hb dX0_heapOf_0 (by decide) ?_
  refine lv_istore_n (lv' := [(2, .int 0), (0, .ref xA), (1, .int kk)]) hx hb dX0_heapOf_1 rfl hl (by decide) rfl (fun ls hl => ?_)
  refine lv_iconst (v := 1) hx hb dX0_heapOf_2 (by decide) ?_
  refine lv_iload_n hx hb dX0_heapOf_3 rfl (lv_at hl 2 rfl) ?_
  refine lv_ishl hx hb dX0_heapOf_4 ?_
  refine lv_istore_n (lv' := [(3, .int ((1 : Int32) <<< (kk &&& 31))), (2, .int 0), (0, .ref xA), (1, .int kk)]) hx hb dX0_heapOf_5 rfl hl (by decide) rfl (fun ls hl => ?_)
  have hx_1 : ∀ t_1 : Int32 × Int32, xf_heapOf_L6 ulit Wd R tbeside kk ((1 : Int32) <<< (kk &&& 31), 0) = t_1 → ∀ ls : Array Slot, lv_has ls 5 [(2, .int t_1.2)] → W p l e (zR 2 0 0) s m ([.ref xA, .int kk] : List Value).toArray below meth c s.heap [] 0 0 (MQ below (k2_QcV (.int (xf_heapOf ulit Wd R tbeside kk))) ([.ref xA, .int kk] : List Value).toArray s 0 0 (fun _ => False)) (F0 m 68 ls []) := by
    intro t_1 ht_1 ls hl
    refine lv_iload_n hx hb dX0_heapOf_68 rfl (lv_at hl 0 rfl) ?_
    have e_ : xf_heapOf ulit Wd R tbeside kk = t_1.2 := by rw [xf_heapOf, zlet_eq ht_1]
    exact zr_oi hx hb hr hlocks dX0_heapOf_69 (congrArg Value.int e_)
  have hlp_1 : ∀ (n : Nat) (s_1 : Int32 × Int32), 32 - zpc s_1.1 + (if s_1.1 = s_1.2 then 0 else 1) < n → zw (xf_heapOf_B6 ulit Wd R tbeside kk) ((1 : Int32) <<< (kk &&& 31), 0) n s_1 = xf_heapOf_L6 ulit Wd R tbeside kk ((1 : Int32) <<< (kk &&& 31), 0) → ∀ ls : Array Slot, lv_has ls 5 [(3, .int s_1.1), (2, .int s_1.2), (0, .ref xA)] → W p l e (zR 2 0 0) s m ([.ref xA, .int kk] : List Value).toArray below meth c s.heap [] 0 0 (MQ below (k2_QcV (.int (xf_heapOf ulit Wd R tbeside kk))) ([.ref xA, .int kk] : List Value).toArray s 0 0 (fun _ => False)) (F0 m 6 ls []) := by
    intro n
    induction n with
    | zero => exact fun _ h => absurd h (Nat.not_lt_zero _)
    | succ n ih_1 =>
      intro s_1 hmu_1 hR_1 ls hl
      refine lv_iload_n hx hb dX0_heapOf_6 rfl (lv_at hl 0 rfl) ?_
      refine lv_iload_n hx hb dX0_heapOf_7 rfl (lv_at hl 1 rfl) ?_
      refine lv_icmp_eq (tgt := 68) hx hb dX0_heapOf_8 (by decide) (fun c_2 => ?_) (fun c_2 => ?_)
      · exact hx_1 (s_1.1, s_1.2) (hR_1.symm.trans (zw_r (by rw [xf_heapOf_B6, if_pos c_2]))) ls (lv_sub hl [1] rfl)
      · refine lv_iload_n hx hb dX0_heapOf_11 rfl (lv_at hl 0 rfl) ?_
        refine lv_istore_n (lv' := [(2, .int s_1.1), (3, .int s_1.1), (0, .ref xA)]) hx hb dX0_heapOf_12 rfl hl (by decide) rfl (fun ls hl => ?_)
        refine lv_iconst (v := 0) hx hb dX0_heapOf_13 (by decide) ?_
        refine lv_istore (lv' := [(4, .int 0), (2, .int s_1.1), (3, .int s_1.1), (0, .ref xA)]) hx hb dX0_heapOf_14 hl (by decide) rfl (fun ls hl => ?_)
        have hlp_3 : ∀ (n k_3 : Nat) (s_3 : Int32), k_3 ≤ Wd * R → Wd * R < k_3 + n → zf (xf_heapOf_B16 ulit Wd R tbeside s_1) s_1.1 k_3 = s_3 → s_1.1 ||| s_3 = s_3 → ∀ ls : Array Slot, lv_has ls 5 [(4, .int (nI k_3)), (2, .int s_1.1), (3, .int s_3), (0, .ref xA)] → W p l e (zR 2 0 0) s m ([.ref xA, .int kk] : List Value).toArray below meth c s.heap [] 0 0 (MQ below (k2_QcV (.int (xf_heapOf ulit Wd R tbeside kk))) ([.ref xA, .int kk] : List Value).toArray s 0 0 (fun _ => False)) (F0 m 16 ls []) := by
          intro n
          induction n with
          | zero => intro k_3 s_3 h1 h2; exact absurd h2 (by omega)
          | succ n ih_3 =>
            intro k_3 s_3 hk_3 hn_3 hst_3 hi2 ls hl
            refine lv_iload hx hb dX0_heapOf_16 (lv_at hl 0 rfl) ?_
            refine lv_aload_n hx hb dX0_heapOf_18 rfl (lv_at hl 3 rfl) ?_
            refine zr_obV ⟨hx, hb, hml, hown, hts⟩ (mt_xf_at l G xA xa_trays xa_tape x_taped x_faultKind x_faultAt xa_bad xa_refused x_status x_above x_under nA xa_marks x_markMany xa_pictures x_lead x_round xa_ways x_bestSet x_bestMany x_left xa_aside xa_last x_hasLived uA n_year tA uA_bo uA_st uA_se ulit umayor unight uoil uborn ustays useen tA_be tA_le tA_mo tA_rn tA_cn tA_bo tA_st Wd R thouses talways tnever nr nc tring tbeside tleast tmost trnames hT) (cwV 0 hts (lw_V q891 q893 qs28 q135 q894) rfl rfl rfl hd_X0_at ⟨(Nat.le_of_ble_eq_true rfl), (Nat.le_of_ble_eq_true rfl)⟩) hP hK hE 0 0 rfl rfl rfl hl.1 rfl (Nat.le_of_ble_eq_true rfl) dX0_heapOf_19 ⟨Nat.le_refl _, Nat.le_refl _⟩ ?_
            refine zr_obV ⟨hx, hb, hml, hown, hts⟩ (mt_tf_cells l G tA tA_be tA_le tA_mo tA_rn tA_cn tA_bo tA_st Wd R thouses talways tnever (nI nr) (nI nc) tring tbeside tleast tmost trnames) (cwV 0 hts (lw_V q1205 q1088 q1089 q143 q1090) rfl rfl rfl hd_X6_cells ⟨(Nat.le_of_ble_eq_true rfl), (Nat.le_of_ble_eq_true rfl)⟩) (zP_sub hP (ws' := (tW G tA tA_be tA_le tA_mo tA_rn tA_cn tA_bo tA_st (nI Wd) (nI R) thouses talways tnever (nI nr) (nI nc) tring tbeside tleast tmost trnames)) [6, 7, 8, 9, 10] rfl) hK hE 0 6 rfl rfl rfl hl.1 rfl (Nat.le_of_ble_eq_true rfl) dX0_heapOf_22 ⟨Nat.le_refl _, Nat.le_refl _⟩ ?_
            refine zr_ge k_3 (Wd * R) (by omega) (by omega) (tgt := 65) hx hb dX0_heapOf_25 (by decide) (fun c_3 => ?_) (fun c_3 => ?_)
            · have ek_3 : k_3 = Wd * R := Nat.le_antisymm hk_3 c_3
              have hs_3 : xf_heapOf_L16 ulit Wd R tbeside s_1 s_1.1 = s_3 := by rw [ek_3] at hst_3; exact hst_3
              have hl := lv_sub hl (l' := _) [1, 2, 3] rfl
              refine lv_goto (tgt := 6) hx hb dX0_heapOf_65 (by decide) ?_
              exact ih_1 (s_3, s_1.1) (heapOf_mu hmu_1 (by assumption) (by assumption)) ((zw_l (by rw [xf_heapOf_B6, if_neg c_2, zlet_eq hs_3])).symm.trans hR_1) ls (lv_sub hl [1, 0, 2] rfl)
            · have hlt_3 : k_3 < Wd * R := Nat.lt_of_not_le c_3
              refine lv_iload_n hx hb dX0_heapOf_28 rfl (lv_at hl 1 rfl) ?_
              refine lv_iload hx hb dX0_heapOf_29 (lv_at hl 0 rfl) ?_
              refine lv_ishr hx hb dX0_heapOf_31 ?_
              refine lv_iconst (v := 1) hx hb dX0_heapOf_32 (by decide) ?_
              refine lv_iand hx hb dX0_heapOf_33 ?_
              refine lv_iconst (v := 1) hx hb dX0_heapOf_34 (by decide) ?_
              refine lv_icmp_ne (tgt := 59) hx hb dX0_heapOf_35 (by decide) (fun c_4 => ?_) (fun c_4 => ?_)
              · refine lv_iinc (v := nI (k_3 + 1)) (lv' := [(4, .int (nI (k_3 + 1))), (2, .int s_1.1), (3, .int s_3), (0, .ref xA)]) hx hb dX0_heapOf_59 hl (k := 0) rfl (nI_add k_3 1) (by decide) rfl (fun ls hl => ?_)
                refine lv_goto (tgt := 16) hx hb dX0_heapOf_62 (by decide) ?_
                exact ih_3 (k_3 + 1) s_3 hlt_3 (by omega) (zf_s hst_3 (by rw [xf_heapOf_B16, if_neg c_4])) (by first | exact hi2 | (rw [← Int32.or_assoc, hi2])) ls (lv_sub hl [0, 1, 2, 3] rfl)
              · refine lv_iload_n hx hb dX0_heapOf_38 rfl (lv_at hl 2 rfl) ?_
                refine lv_aload_n hx hb dX0_heapOf_39 rfl (lv_at hl 3 rfl) ?_
                refine zr_obV ⟨hx, hb, hml, hown, hts⟩ (mt_xf_at l G xA xa_trays xa_tape x_taped x_faultKind x_faultAt xa_bad xa_refused x_status x_above x_under nA xa_marks x_markMany xa_pictures x_lead x_round xa_ways x_bestSet x_bestMany x_left xa_aside xa_last x_hasLived uA n_year tA uA_bo uA_st uA_se ulit umayor unight uoil uborn ustays useen tA_be tA_le tA_mo tA_rn tA_cn tA_bo tA_st Wd R thouses talways tnever nr nc tring tbeside tleast tmost trnames hT) (cwV 0 hts (lw_V q891 q893 qs28 q135 q894) rfl rfl rfl hd_X0_at ⟨(Nat.le_of_ble_eq_true rfl), (Nat.le_of_ble_eq_true rfl)⟩) hP hK hE 0 0 rfl rfl rfl hl.1 rfl (Nat.le_of_ble_eq_true rfl) dX0_heapOf_40 ⟨Nat.le_refl _, Nat.le_refl _⟩ ?_
                refine va_getN (D := G.1) (ci := 6) (v := .ref tA_be) (C := RX6) (T := TX6) (N := 15) hx hb hts in_X6 hown hK.1 hP 6 rfl rfl 8 (Nat.le_of_ble_eq_true rfl) ((hK.2.1.1 _ (List.mem_of_getElem? (i := 18) rfl)).use rfl) (fun _ h => h) rfl dX0_heapOf_43 ?_
                refine lv_iload hx hb dX0_heapOf_46 (lv_at hl 0 rfl) ?_
                refine zr_iald k_3 (v := tbeside k_3) hx hb hK hP 7 rfl rfl (Nat.le_of_ble_eq_true rfl) rfl (by omega) rfl dX0_heapOf_48 ?_
                refine lv_aload_n hx hb dX0_heapOf_49 rfl (lv_at hl 3 rfl) ?_
                refine zr_obV ⟨hx, hb, hml, hown, hts⟩ (mt_xf_hill l G xA xa_trays xa_tape x_taped x_faultKind x_faultAt xa_bad xa_refused x_status x_above x_under nA xa_marks x_markMany xa_pictures x_lead x_round xa_ways x_bestSet x_bestMany x_left xa_aside xa_last x_hasLived uA n_year tA uA_bo uA_st uA_se ulit umayor unight uoil uborn ustays useen tA_be tA_le tA_mo tA_rn tA_cn tA_bo tA_st Wd R thouses talways tnever nr nc tring tbeside tleast tmost trnames hT) (cwV 0 hts (lw_V q841 q843 qs26 q135 q844) rfl rfl rfl hd_X0_hill ⟨(Nat.le_of_ble_eq_true rfl), (Nat.le_of_ble_eq_true rfl)⟩) hP hK hE 0 0 rfl rfl rfl hl.1 rfl (Nat.le_of_ble_eq_true rfl) dX0_heapOf_50 ⟨Nat.le_refl _, Nat.le_refl _⟩ ?_
                refine va_getN (D := G.1) (ci := 5) (v := .int ulit) (C := RX5) (T := TX5) (N := 8) hx hb hts in_X5 hown hK.1 hP 2 rfl rfl 4 (Nat.le_of_ble_eq_true rfl) ((hK.2.1.1 _ (List.mem_of_getElem? (i := 14) rfl)).use rfl) (fun _ h => h) rfl dX0_heapOf_53 ?_
                refine lv_iand hx hb dX0_heapOf_56 ?_
                refine lv_ior hx hb dX0_heapOf_57 ?_
                refine lv_istore_n (lv' := [(3, .int (s_3 ||| ((tbeside k_3) &&& ulit))), (4, .int (nI k_3)), (2, .int s_1.1), (0, .ref xA)]) hx hb dX0_heapOf_58 rfl hl (by decide) rfl (fun ls hl => ?_)
                refine lv_iinc (v := nI (k_3 + 1)) (lv' := [(4, .int (nI (k_3 + 1))), (3, .int (s_3 ||| ((tbeside k_3) &&& ulit))), (2, .int s_1.1), (0, .ref xA)]) hx hb dX0_heapOf_59 hl (k := 1) rfl (nI_add k_3 1) (by decide) rfl (fun ls hl => ?_)
                refine lv_goto (tgt := 16) hx hb dX0_heapOf_62 (by decide) ?_
                exact ih_3 (k_3 + 1) (s_3 ||| ((tbeside k_3) &&& ulit)) hlt_3 (by omega) (zf_s hst_3 (by rw [xf_heapOf_B16, if_pos c_4])) (by first | exact hi2 | (rw [← Int32.or_assoc, hi2])) ls (lv_sub hl [0, 2, 1, 3] rfl)
        exact hlp_3 ((Wd * R) + 1) 0 s_1.1 (Nat.zero_le _) (by omega) rfl (Int32.or_self) ls (lv_sub hl [0, 1, 2, 3] rfl)
  exact hlp_1 _ ((1 : Int32) <<< (kk &&& 31), 0) (Nat.lt_succ_self _) (by rw [xf_heapOf_L6]) ls (lv_sub hl [0, 1, 2] rfl)
def xf_spoilsOf (ulit : Int32) (umayor : Int32) (uborn : Nat → Int32) (ustays : Nat → Int32) (Wd : Nat) (R : Nat) (thouses : Int32) (talways : Int32) (tnever : Int32) (tbeside : Nat → Int32) (bit : Int32) (nights : Nat) : Nat :=
  (zpc ((hf_after umayor uborn ustays Wd R thouses talways tnever tbeside ulit nights) ^^^ (hf_after umayor uborn ustays Wd R thouses talways tnever tbeside (ulit ^^^ ((1 : Int32) <<< (bit &&& 31))) nights)))
theorem hd_X0_spoilsOf : yX0_spoilsOf.cls = RX0 ∧ yX0_spoilsOf.cls ≠ "java/lang/invoke/MethodHandle" ∧ yX0_spoilsOf.cls ≠ "java/lang/invoke/VarHandle" ∧ (parseMethodDescriptor yX0_spoilsOf.desc).map (fun d => d.parameters.length) = some 2 := by decide +kernel
set_option maxHeartbeats 4000000 in
set_option maxRecDepth 100000 in
theorem mt_xf_spoilsOf (l : Launch) (G : zG) (xA : Nat) (xa_trays : Nat) (xa_tape : Nat) (x_taped : Int32) (x_faultKind : Int32) (x_faultAt : Int32) (xa_bad : Nat) (xa_refused : Nat) (x_status : Int32) (x_above : Int64) (x_under : Int64) (nA : Nat) (xa_marks : Nat) (x_markMany : Int32) (xa_pictures : Nat) (x_lead : Int32) (x_round : Int32) (xa_ways : Nat) (x_bestSet : Int32) (x_bestMany : Int32) (x_left : Int32) (xa_aside : Nat) (xa_last : Nat) (x_hasLived : Bool) (uA : Nat) (n_year : Option Nat) (tA : Nat) (uA_bo : Nat) (uA_st : Nat) (uA_se : Nat) (ulit : Int32) (umayor : Int32) (unight : Int32) (uoil : Int32) (uborn : Nat → Int32) (ustays : Nat → Int32) (useen : Nat → Int32) (tA_be : Nat) (tA_le : Nat) (tA_mo : Nat) (tA_rn : Nat) (tA_cn : Nat) (tA_bo : Nat) (tA_st : Nat) (Wd : Nat) (R : Nat) (thouses : Int32) (talways : Int32) (tnever : Int32) (nr : Nat) (nc : Nat) (tring : Bool) (tbeside : Nat → Int32) (tleast : Nat → Int32) (tmost : Nat → Int32) (trnames : Nat → Int64) (bit : Int32) (nights : Nat) (hT : tOK Wd R nr nc) (hmy : umayor < 0 ∨ (¬ umayor < 0 ∧ umayor.toNatClampNeg < nr)) (hnn : nights < 2 ^ 31) : Met l yX0_spoilsOf (ws_ yX0_spoilsOf cX0_spoilsOf 3 (some .int)) (zR 6 0 0) (zPo G [.ref xA, .int bit, .int (nI nights)] ((xA_ G xA xa_trays xa_tape x_taped x_faultKind x_faultAt xa_bad xa_refused x_status x_above x_under nA xa_marks x_markMany xa_pictures x_lead x_round xa_ways x_bestSet x_bestMany x_left xa_aside xa_last x_hasLived uA n_year) ++ (hW G uA tA uA_bo uA_st uA_se ulit umayor unight uoil uborn ustays useen) ++ (tW G tA tA_be tA_le tA_mo tA_rn tA_cn tA_bo tA_st (nI Wd) (nI R) thouses talways tnever (nI nr) (nI nc) tring tbeside tleast tmost trnames))) (k2_QcV (.int (nI (xf_spoilsOf ulit umayor uborn ustays Wd R thouses talways tnever tbeside bit nights)))) 0 0 (fun _ => False) := by
  refine zr_entO (by decide) (Nat.le_of_ble_eq_true rfl) ?_
  intro p e s m below meth c ⟨hx, hb, hr, hml, hown, hts, hlocks, hnm⟩ ls hl hP hK hE
  have hown : s.vm.findClass RX0 = some m.cls := hown
  have hl : lv_has ls 3 [(0, .ref xA), (1, .int bit), (2, .int (nI nights))] := hl
  have hTT := hT
  obtain ⟨hW0, hW5, hR0, hR6, hn4, hc6, hWR⟩ := hTT
  refine lv_aload_n hx hb dX0_spoilsOf_0 rfl (lv_at hl 0 rfl) ?_
  refine zr_obV ⟨hx, hb, hml, hown, hts⟩ (mt_xf_hill l G xA xa_trays xa_tape x_taped x_faultKind x_faultAt xa_bad xa_refused x_status x_above x_under nA xa_marks x_markMany xa_pictures x_lead x_round xa_ways x_bestSet x_bestMany x_left xa_aside xa_last x_hasLived uA n_year tA uA_bo uA_st uA_se ulit umayor unight uoil uborn ustays useen tA_be tA_le tA_mo tA_rn tA_cn tA_bo tA_st Wd R thouses talways tnever nr nc tring tbeside tleast tmost trnames hT) (cwV 0 hts (lw_V q841 q843 qs26 q135 q844) rfl rfl rfl hd_X0_hill ⟨(Nat.le_of_ble_eq_true rfl), (Nat.le_of_ble_eq_true rfl)⟩) hP hK hE 0 0 rfl rfl rfl hl.1 rfl (Nat.le_of_ble_eq_true rfl) dX0_spoilsOf_1 ⟨Nat.le_refl _, Nat.le_refl _⟩ ?_
  refine lv_aload_n hx hb dX0_spoilsOf_4 rfl (lv_at hl 0 rfl) ?_
  refine zr_obV ⟨hx, hb, hml, hown, hts⟩ (mt_xf_hill l G xA xa_trays xa_tape x_taped x_faultKind x_faultAt xa_bad xa_refused x_status x_above x_under nA xa_marks x_markMany xa_pictures x_lead x_round xa_ways x_bestSet x_bestMany x_left xa_aside xa_last x_hasLived uA n_year tA uA_bo uA_st uA_se ulit umayor unight uoil uborn ustays useen tA_be tA_le tA_mo tA_rn tA_cn tA_bo tA_st Wd R thouses talways tnever nr nc tring tbeside tleast tmost trnames hT) (cwV 0 hts (lw_V q841 q843 qs26 q135 q844) rfl rfl rfl hd_X0_hill ⟨(Nat.le_of_ble_eq_true rfl), (Nat.le_of_ble_eq_true rfl)⟩) hP hK hE 0 0 rfl rfl rfl hl.1 rfl (Nat.le_of_ble_eq_true rfl) dX0_spoilsOf_5 ⟨Nat.le_refl _, Nat.le_refl _⟩ ?_
  refine va_getN (D := G.1) (ci := 5) (v := .int ulit) (C := RX5) (T := TX5) (N := 8) hx hb hts in_X5 hown hK.1 hP 2 rfl rfl 4 (Nat.le_of_ble_eq_true rfl) ((hK.2.1.1 _ (List.mem_of_getElem? (i := 14) rfl)).use rfl) (fun _ h => h) rfl dX0_spoilsOf_8 ?_
  refine lv_iload_n hx hb dX0_spoilsOf_11 rfl (lv_at hl 2 rfl) ?_
  refine zr_obV ⟨hx, hb, hml, hown, hts⟩ (mt_hf_after l G uA tA uA_bo uA_st uA_se ulit umayor unight uoil uborn ustays useen tA_be tA_le tA_mo tA_rn tA_cn tA_bo tA_st Wd R thouses talways tnever nr nc tring tbeside tleast tmost trnames ulit nights hT hmy hnn) (cwV 2 hts (lw_V q1104 q1105 q1106 q142 q1107) rfl rfl rfl hd_X5_after ⟨(Nat.le_of_ble_eq_true rfl), (Nat.le_of_ble_eq_true rfl)⟩) (zP_sub hP (ws' := ((hW G uA tA uA_bo uA_st uA_se ulit umayor unight uoil uborn ustays useen) ++ (tW G tA tA_be tA_le tA_mo tA_rn tA_cn tA_bo tA_st (nI Wd) (nI R) thouses talways tnever (nI nr) (nI nc) tring tbeside tleast tmost trnames))) [2, 3, 4, 5, 6, 7, 8, 9, 10] rfl) hK hE 0 5 rfl rfl rfl hl.1 rfl (Nat.le_of_ble_eq_true rfl) dX0_spoilsOf_12 ⟨Nat.le_refl _, Nat.le_refl _⟩ ?_
  refine lv_aload_n hx hb dX0_spoilsOf_15 rfl (lv_at hl 0 rfl) ?_
  refine zr_obV ⟨hx, hb, hml, hown, hts⟩ (mt_xf_hill l G xA xa_trays xa_tape x_taped x_faultKind x_faultAt xa_bad xa_refused x_status x_above x_under nA xa_marks x_markMany xa_pictures x_lead x_round xa_ways x_bestSet x_bestMany x_left xa_aside xa_last x_hasLived uA n_year tA uA_bo uA_st uA_se ulit umayor unight uoil uborn ustays useen tA_be tA_le tA_mo tA_rn tA_cn tA_bo tA_st Wd R thouses talways tnever nr nc tring tbeside tleast tmost trnames hT) (cwV 0 hts (lw_V q841 q843 qs26 q135 q844) rfl rfl rfl hd_X0_hill ⟨(Nat.le_of_ble_eq_true rfl), (Nat.le_of_ble_eq_true rfl)⟩) hP hK hE 0 0 rfl rfl rfl hl.1 rfl (Nat.le_of_ble_eq_true rfl) dX0_spoilsOf_16 ⟨Nat.le_refl _, Nat.le_refl _⟩ ?_
  refine lv_aload_n hx hb dX0_spoilsOf_19 rfl (lv_at hl 0 rfl) ?_
  refine zr_obV ⟨hx, hb, hml, hown, hts⟩ (mt_xf_hill l G xA xa_trays xa_tape x_taped x_faultKind x_faultAt xa_bad xa_refused x_status x_above x_under nA xa_marks x_markMany xa_pictures x_lead x_round xa_ways x_bestSet x_bestMany x_left xa_aside xa_last x_hasLived uA n_year tA uA_bo uA_st uA_se ulit umayor unight uoil uborn ustays useen tA_be tA_le tA_mo tA_rn tA_cn tA_bo tA_st Wd R thouses talways tnever nr nc tring tbeside tleast tmost trnames hT) (cwV 0 hts (lw_V q841 q843 qs26 q135 q844) rfl rfl rfl hd_X0_hill ⟨(Nat.le_of_ble_eq_true rfl), (Nat.le_of_ble_eq_true rfl)⟩) hP hK hE 0 0 rfl rfl rfl hl.1 rfl (Nat.le_of_ble_eq_true rfl) dX0_spoilsOf_20 ⟨Nat.le_refl _, Nat.le_refl _⟩ ?_
  refine va_getN (D := G.1) (ci := 5) (v := .int ulit) (C := RX5) (T := TX5) (N := 8) hx hb hts in_X5 hown hK.1 hP 2 rfl rfl 4 (Nat.le_of_ble_eq_true rfl) ((hK.2.1.1 _ (List.mem_of_getElem? (i := 14) rfl)).use rfl) (fun _ h => h) rfl dX0_spoilsOf_23 ?_
  refine lv_iconst (v := 1) hx hb dX0_spoilsOf_26 (by decide) ?_
  refine lv_iload_n hx hb dX0_spoilsOf_27 rfl (lv_at hl 1 rfl) ?_
  refine lv_ishl hx hb dX0_spoilsOf_28 ?_
  refine lv_ixor hx hb dX0_spoilsOf_29 ?_
  refine lv_iload_n hx hb dX0_spoilsOf_30 rfl (lv_at hl 2 rfl) ?_
  refine zr_obV ⟨hx, hb, hml, hown, hts⟩ (mt_hf_after l G uA tA uA_bo uA_st uA_se ulit umayor unight uoil uborn ustays useen tA_be tA_le tA_mo tA_rn tA_cn tA_bo tA_st Wd R thouses talways tnever nr nc tring tbeside tleast tmost trnames (ulit ^^^ ((1 : Int32) <<< (bit &&& 31))) nights hT hmy hnn) (cwV 2 hts (lw_V q1104 q1105 q1106 q142 q1107) rfl rfl rfl hd_X5_after ⟨(Nat.le_of_ble_eq_true rfl), (Nat.le_of_ble_eq_true rfl)⟩) (zP_sub hP (ws' := ((hW G uA tA uA_bo uA_st uA_se ulit umayor unight uoil uborn ustays useen) ++ (tW G tA tA_be tA_le tA_mo tA_rn tA_cn tA_bo tA_st (nI Wd) (nI R) thouses talways tnever (nI nr) (nI nc) tring tbeside tleast tmost trnames))) [2, 3, 4, 5, 6, 7, 8, 9, 10] rfl) hK hE 0 5 rfl rfl rfl hl.1 rfl (Nat.le_of_ble_eq_true rfl) dX0_spoilsOf_31 ⟨Nat.le_refl _, Nat.le_refl _⟩ ?_
  refine lv_ixor hx hb dX0_spoilsOf_34 ?_
  refine zr_puS ⟨hx, hb, hml, hown, hts⟩ (mt_xf_many l ((hf_after umayor uborn ustays Wd R thouses talways tnever tbeside ulit nights) ^^^ (hf_after umayor uborn ustays Wd R thouses talways tnever tbeside (ulit ^^^ ((1 : Int32) <<< (bit &&& 31))) nights))) (va_cwS 1 hts (lw_S q850 q851 q135 q852) rfl rfl rfl hd_X0_many.2 ⟨(Nat.le_of_ble_eq_true rfl), (Nat.le_of_ble_eq_true rfl)⟩) rfl hl.1 rfl (Nat.le_of_ble_eq_true rfl) dX0_spoilsOf_35 ⟨Nat.le_refl _, Nat.le_refl _⟩ ?_
  have e_ : xf_spoilsOf ulit umayor uborn ustays Wd R thouses talways tnever tbeside bit nights = zpc ((hf_after umayor uborn ustays Wd R thouses talways tnever tbeside ulit nights) ^^^ (hf_after umayor uborn ustays Wd R thouses talways tnever tbeside (ulit ^^^ ((1 : Int32) <<< (bit &&& 31))) nights)) := by rw [xf_spoilsOf]
  exact zr_oi hx hb hr hlocks dX0_spoilsOf_38 (congrArg (fun z => Value.int (nI z)) e_)
def xf_seen (useen : Nat → Int32) (state : Int32) (nb : Int32) : Int32 × Int32 :=
  (if (xf_isIn state.toInt64 0 1) = true then
    (if (xf_isIn nb.toInt64 0 4) = true then
      (useen (5 * state.toNatClampNeg + nb.toNatClampNeg), 0)
    else
      ((-1), 1))
  else
    ((-1), 1))
theorem hd_X0_seen : yX0_seen.cls = RX0 ∧ yX0_seen.cls ≠ "java/lang/invoke/MethodHandle" ∧ yX0_seen.cls ≠ "java/lang/invoke/VarHandle" ∧ (parseMethodDescriptor yX0_seen.desc).map (fun d => d.parameters.length) = some 2 := by decide +kernel
set_option maxHeartbeats 4000000 in
set_option maxRecDepth 100000 in
theorem mt_xf_seen (l : Launch) (G : zG) (xA : Nat) (xa_trays : Nat) (xa_tape : Nat) (x_taped : Int32) (x_faultKind : Int32) (x_faultAt : Int32) (xa_bad : Nat) (xa_refused : Nat) (x_status : Int32) (x_above : Int64) (x_under : Int64) (nA : Nat) (xa_marks : Nat) (x_markMany : Int32) (xa_pictures : Nat) (x_lead : Int32) (x_round : Int32) (xa_ways : Nat) (x_bestSet : Int32) (x_bestMany : Int32) (x_left : Int32) (xa_aside : Nat) (xa_last : Nat) (x_hasLived : Bool) (uA : Nat) (n_year : Option Nat) (tA : Nat) (uA_bo : Nat) (uA_st : Nat) (uA_se : Nat) (ulit : Int32) (umayor : Int32) (unight : Int32) (uoil : Int32) (uborn : Nat → Int32) (ustays : Nat → Int32) (useen : Nat → Int32) (tA_be : Nat) (tA_le : Nat) (tA_mo : Nat) (tA_rn : Nat) (tA_cn : Nat) (tA_bo : Nat) (tA_st : Nat) (Wd : Nat) (R : Nat) (thouses : Int32) (talways : Int32) (tnever : Int32) (nr : Nat) (nc : Nat) (tring : Bool) (tbeside : Nat → Int32) (tleast : Nat → Int32) (tmost : Nat → Int32) (trnames : Nat → Int64) (state : Int32) (nb : Int32) (hT : tOK Wd R nr nc) (sz : Nat) : Met l yX0_seen (ws_ yX0_seen cX0_seen 3 (some .int)) (zR 2 0 0) (zPm G sz [.ref xA, .int state, .int nb] ((xA_ G xA xa_trays xa_tape x_taped x_faultKind x_faultAt xa_bad xa_refused x_status x_above x_under nA xa_marks x_markMany xa_pictures x_lead x_round xa_ways x_bestSet x_bestMany x_left xa_aside xa_last x_hasLived uA n_year) ++ (hW G uA tA uA_bo uA_st uA_se ulit umayor unight uoil uborn ustays useen) ++ (tW G tA tA_be tA_le tA_mo tA_rn tA_cn tA_bo tA_st (nI Wd) (nI R) thouses talways tnever (nI nr) (nI nc) tring tbeside tleast tmost trnames))) (zQm G (True) (some (.int ((xf_seen useen state nb).1))) ((xA_ G xA xa_trays xa_tape x_taped x_faultKind x_faultAt xa_bad xa_refused ((xf_seen useen state nb).2) x_above x_under nA xa_marks x_markMany xa_pictures x_lead x_round xa_ways x_bestSet x_bestMany x_left xa_aside xa_last x_hasLived uA n_year) ++ (hW G uA tA uA_bo uA_st uA_se ulit umayor unight uoil uborn ustays useen) ++ (tW G tA tA_be tA_le tA_mo tA_rn tA_cn tA_bo tA_st (nI Wd) (nI R) thouses talways tnever (nI nr) (nI nc) tring tbeside tleast tmost trnames)) (va_A ((xA_ G xA xa_trays xa_tape x_taped x_faultKind x_faultAt xa_bad xa_refused x_status x_above x_under nA xa_marks x_markMany xa_pictures x_lead x_round xa_ways x_bestSet x_bestMany x_left xa_aside xa_last x_hasLived uA n_year) ++ (hW G uA tA uA_bo uA_st uA_se ulit umayor unight uoil uborn ustays useen) ++ (tW G tA tA_be tA_le tA_mo tA_rn tA_cn tA_bo tA_st (nI Wd) (nI R) thouses talways tnever (nI nr) (nI nc) tring tbeside tleast tmost trnames)) sz)) 0 0 (va_A ((xA_ G xA xa_trays xa_tape x_taped x_faultKind x_faultAt xa_bad xa_refused x_status x_above x_under nA xa_marks x_markMany xa_pictures x_lead x_round xa_ways x_bestSet x_bestMany x_left xa_aside xa_last x_hasLived uA n_year) ++ (hW G uA tA uA_bo uA_st uA_se ulit umayor unight uoil uborn ustays useen) ++ (tW G tA tA_be tA_le tA_mo tA_rn tA_cn tA_bo tA_st (nI Wd) (nI R) thouses talways tnever (nI nr) (nI nc) tring tbeside tleast tmost trnames)) sz) := by
  refine zr_entM (by decide) (Nat.le_of_ble_eq_true rfl) ?_
  intro p e s m below meth c ⟨hx, hb, hr, hml, hown, hts, hlocks, hnm⟩ ls hl hP hK A hE hA hD hS
  have hown : s.vm.findClass RX0 = some m.cls := hown
  have hl : lv_has ls 3 [(0, .ref xA), (1, .int state), (2, .int nb)] := hl
  obtain ⟨H, hH⟩ : ∃ H, H = s.heap := ⟨_, rfl⟩
  obtain ⟨locs, hlo⟩ : ∃ L : List Loc, L = [] := ⟨_, rfl⟩
  rw [← hH] at hP
  have hS : va_S A s.heap H locs := by rw [hH, hlo]; exact va_S.rf
  have hgo : W p l e (zR 2 0 0) s m ([.ref xA, .int state, .int nb] : List Value).toArray below meth c H locs 0 0 (MQ below (zQm G (True) (some (.int ((xf_seen useen state nb).1))) ((xA_ G xA xa_trays xa_tape x_taped x_faultKind x_faultAt xa_bad xa_refused ((xf_seen useen state nb).2) x_above x_under nA xa_marks x_markMany xa_pictures x_lead x_round xa_ways x_bestSet x_bestMany x_left xa_aside xa_last x_hasLived uA n_year) ++ (hW G uA tA uA_bo uA_st uA_se ulit umayor unight uoil uborn ustays useen) ++ (tW G tA tA_be tA_le tA_mo tA_rn tA_cn tA_bo tA_st (nI Wd) (nI R) thouses talways tnever (nI nr) (nI nc) tring tbeside tleast tmost trnames)) A) ([.ref xA, .int state, .int nb] : List Value).toArray s 0 0 A) (F0 m 0 ls []) := ?_
  · rw [hH, hlo] at hgo; exact hgo
  clear hH hlo
  have hTT := hT
  obtain ⟨hW0, hW5, hR0, hR6, hn4, hc6, hWR⟩ := hTT
  refine lv_aload_n hx hb dX0_seen_0 rfl (lv_at hl 0 rfl) ?_
  refine lv_iload_n hx hb dX0_seen_1 rfl (lv_at hl 1 rfl) ?_
  refine lv_i2l hx hb dX0_seen_2 rfl ?_
  refine lv_lconst (v := 0) hx hb dX0_seen_3 rfl ?_
  refine lv_lconst (v := 1) hx hb dX0_seen_4 rfl ?_
  refine zr_puS ⟨hx, hb, hml, hown, hts⟩ (mt_xf_isIn l state.toInt64 0 1) (va_cwS 3 hts (lw_S q969 q970 q135 q971) rfl rfl rfl hd_X0_isIn.2 ⟨(Nat.le_of_ble_eq_true rfl), (Nat.le_of_ble_eq_true rfl)⟩) rfl hl.1 rfl (Nat.le_of_ble_eq_true rfl) dX0_seen_5 ⟨Nat.le_refl _, Nat.le_refl _⟩ ?_
  refine zr_eqB (xf_isIn state.toInt64 0 1) (tgt := 27) hx hb dX0_seen_8 (by decide) (fun c_1 => ?_) (fun c_1 => ?_)
  · refine lv_iconst (v := 1) hx hb dX0_seen_27 (by decide) ?_
    refine va_put (D := G.1) (ci := 0) (v := .int 1) (ty := .int) (C := RX0) (T := TX0) (N := 23) hx hb hts in_X0 tyX0 tyX0_ok nmX0 hown hK.1 hP hD hS 0 rfl rfl 7 (Nat.le_of_ble_eq_true rfl) (hts _ q432) (fun _ h => h) rfl (tyX0_ok 7 (Nat.le_of_ble_eq_true rfl)) rfl rfl (Nat.le_of_ble_eq_true rfl) dX0_seen_28 (fun H locs hP hD hS => ?_)
    have hP : va_P G.1 zcl ((xA_ G xA xa_trays xa_tape x_taped x_faultKind x_faultAt xa_bad xa_refused 1 x_above x_under nA xa_marks x_markMany xa_pictures x_lead x_round xa_ways x_bestSet x_bestMany x_left xa_aside xa_last x_hasLived uA n_year) ++ (hW G uA tA uA_bo uA_st uA_se ulit umayor unight uoil uborn ustays useen) ++ (tW G tA tA_be tA_le tA_mo tA_rn tA_cn tA_bo tA_st (nI Wd) (nI R) thouses talways tnever (nI nr) (nI nc) tring tbeside tleast tmost trnames)) H := hP
    have hD : va_D A ((xA_ G xA xa_trays xa_tape x_taped x_faultKind x_faultAt xa_bad xa_refused 1 x_above x_under nA xa_marks x_markMany xa_pictures x_lead x_round xa_ways x_bestSet x_bestMany x_left xa_aside xa_last x_hasLived uA n_year) ++ (hW G uA tA uA_bo uA_st uA_se ulit umayor unight uoil uborn ustays useen) ++ (tW G tA tA_be tA_le tA_mo tA_rn tA_cn tA_bo tA_st (nI Wd) (nI R) thouses talways tnever (nI nr) (nI nc) tring tbeside tleast tmost trnames)) := hD
    refine lv_aload_n hx hb dX0_seen_31 rfl (lv_at hl 0 rfl) ?_
    refine va_get (D := G.1) (ci := 0) (v := .int 1) (C := RX0) (T := TX0) (N := 23) hx hb hts in_X0 hown hK.1 hP 0 rfl rfl 7 (Nat.le_of_ble_eq_true rfl) (hts _ q432) (fun _ h => h) rfl dX0_seen_32 ?_
    refine lv_if_le (tgt := 42) hx hb dX0_seen_35 (by decide) (fun z => absurd z (by decide)) (fun _ => ?_)
    refine lv_iconst (v := (-1)) hx hb dX0_seen_38 (by decide) ?_
    refine lv_goto (tgt := 55) hx hb dX0_seen_39 (by decide) ?_
    have e_ : xf_seen useen state nb = ((-1), 1) := by rw [xf_seen, if_neg c_1]
    exact zr_mi hx hb hr hlocks hP hD hS dX0_seen_55 (by rw [e_])  (by rw [e_]) trivial
  · obtain ⟨hs0, hs1, hs2⟩ := xIn_t (a := 0) (N := 1) (by decide) (by decide) c_1
    refine lv_iload_n hx hb dX0_seen_11 rfl (lv_at hl 2 rfl) ?_
    refine lv_i2l hx hb dX0_seen_12 rfl ?_
    refine lv_lconst (v := 0) hx hb dX0_seen_13 rfl ?_
    refine lv_ldc2 (v := 4) hx hb hown (hts _ q1238) dX0_seen_14 ?_
    refine zr_puS ⟨hx, hb, hml, hown, hts⟩ (mt_xf_isIn l nb.toInt64 0 4) (va_cwS 3 hts (lw_S q969 q970 q135 q971) rfl rfl rfl hd_X0_isIn.2 ⟨(Nat.le_of_ble_eq_true rfl), (Nat.le_of_ble_eq_true rfl)⟩) rfl hl.1 rfl (Nat.le_of_ble_eq_true rfl) dX0_seen_17 ⟨Nat.le_refl _, Nat.le_refl _⟩ ?_
    refine zr_eqB (xf_isIn nb.toInt64 0 4) (tgt := 27) hx hb dX0_seen_20 (by decide) (fun c_2 => ?_) (fun c_2 => ?_)
    · refine lv_iconst (v := 1) hx hb dX0_seen_27 (by decide) ?_
      refine va_put (D := G.1) (ci := 0) (v := .int 1) (ty := .int) (C := RX0) (T := TX0) (N := 23) hx hb hts in_X0 tyX0 tyX0_ok nmX0 hown hK.1 hP hD hS 0 rfl rfl 7 (Nat.le_of_ble_eq_true rfl) (hts _ q432) (fun _ h => h) rfl (tyX0_ok 7 (Nat.le_of_ble_eq_true rfl)) rfl rfl (Nat.le_of_ble_eq_true rfl) dX0_seen_28 (fun H locs hP hD hS => ?_)
      have hP : va_P G.1 zcl ((xA_ G xA xa_trays xa_tape x_taped x_faultKind x_faultAt xa_bad xa_refused 1 x_above x_under nA xa_marks x_markMany xa_pictures x_lead x_round xa_ways x_bestSet x_bestMany x_left xa_aside xa_last x_hasLived uA n_year) ++ (hW G uA tA uA_bo uA_st uA_se ulit umayor unight uoil uborn ustays useen) ++ (tW G tA tA_be tA_le tA_mo tA_rn tA_cn tA_bo tA_st (nI Wd) (nI R) thouses talways tnever (nI nr) (nI nc) tring tbeside tleast tmost trnames)) H := hP
      have hD : va_D A ((xA_ G xA xa_trays xa_tape x_taped x_faultKind x_faultAt xa_bad xa_refused 1 x_above x_under nA xa_marks x_markMany xa_pictures x_lead x_round xa_ways x_bestSet x_bestMany x_left xa_aside xa_last x_hasLived uA n_year) ++ (hW G uA tA uA_bo uA_st uA_se ulit umayor unight uoil uborn ustays useen) ++ (tW G tA tA_be tA_le tA_mo tA_rn tA_cn tA_bo tA_st (nI Wd) (nI R) thouses talways tnever (nI nr) (nI nc) tring tbeside tleast tmost trnames)) := hD
      refine lv_aload_n hx hb dX0_seen_31 rfl (lv_at hl 0 rfl) ?_
      refine va_get (D := G.1) (ci := 0) (v := .int 1) (C := RX0) (T := TX0) (N := 23) hx hb hts in_X0 hown hK.1 hP 0 rfl rfl 7 (Nat.le_of_ble_eq_true rfl) (hts _ q432) (fun _ h => h) rfl dX0_seen_32 ?_
      refine lv_if_le (tgt := 42) hx hb dX0_seen_35 (by decide) (fun z => absurd z (by decide)) (fun _ => ?_)
      refine lv_iconst (v := (-1)) hx hb dX0_seen_38 (by decide) ?_
      refine lv_goto (tgt := 55) hx hb dX0_seen_39 (by decide) ?_
      have e_ : xf_seen useen state nb = ((-1), 1) := by rw [xf_seen, if_pos c_1, if_neg c_2]
      exact zr_mi hx hb hr hlocks hP hD hS dX0_seen_55 (by rw [e_])  (by rw [e_]) trivial
    · obtain ⟨hn0, hn1, hn2⟩ := xIn_t (a := 0) (N := 4) (by decide) (by decide) c_2
      refine lv_iconst (v := 0) hx hb dX0_seen_23 (by decide) ?_
      refine lv_goto (tgt := 28) hx hb dX0_seen_24 (by decide) ?_
      refine va_put (D := G.1) (ci := 0) (v := .int 0) (ty := .int) (C := RX0) (T := TX0) (N := 23) hx hb hts in_X0 tyX0 tyX0_ok nmX0 hown hK.1 hP hD hS 0 rfl rfl 7 (Nat.le_of_ble_eq_true rfl) (hts _ q432) (fun _ h => h) rfl (tyX0_ok 7 (Nat.le_of_ble_eq_true rfl)) rfl rfl (Nat.le_of_ble_eq_true rfl) dX0_seen_28 (fun H locs hP hD hS => ?_)
      have hP : va_P G.1 zcl ((xA_ G xA xa_trays xa_tape x_taped x_faultKind x_faultAt xa_bad xa_refused 0 x_above x_under nA xa_marks x_markMany xa_pictures x_lead x_round xa_ways x_bestSet x_bestMany x_left xa_aside xa_last x_hasLived uA n_year) ++ (hW G uA tA uA_bo uA_st uA_se ulit umayor unight uoil uborn ustays useen) ++ (tW G tA tA_be tA_le tA_mo tA_rn tA_cn tA_bo tA_st (nI Wd) (nI R) thouses talways tnever (nI nr) (nI nc) tring tbeside tleast tmost trnames)) H := hP
      have hD : va_D A ((xA_ G xA xa_trays xa_tape x_taped x_faultKind x_faultAt xa_bad xa_refused 0 x_above x_under nA xa_marks x_markMany xa_pictures x_lead x_round xa_ways x_bestSet x_bestMany x_left xa_aside xa_last x_hasLived uA n_year) ++ (hW G uA tA uA_bo uA_st uA_se ulit umayor unight uoil uborn ustays useen) ++ (tW G tA tA_be tA_le tA_mo tA_rn tA_cn tA_bo tA_st (nI Wd) (nI R) thouses talways tnever (nI nr) (nI nc) tring tbeside tleast tmost trnames)) := hD
      refine lv_aload_n hx hb dX0_seen_31 rfl (lv_at hl 0 rfl) ?_
      refine va_get (D := G.1) (ci := 0) (v := .int 0) (C := RX0) (T := TX0) (N := 23) hx hb hts in_X0 hown hK.1 hP 0 rfl rfl 7 (Nat.le_of_ble_eq_true rfl) (hts _ q432) (fun _ h => h) rfl dX0_seen_32 ?_
      refine lv_if_le (tgt := 42) hx hb dX0_seen_35 (by decide) (fun _ => ?_) (fun z => absurd (by decide) z)
      have hl : lv_has ls 3 [(0, .ref xA), (1, .int (nI state.toNatClampNeg)), (2, .int nb)] := by rw [← (z_nn hs0 : state = nI state.toNatClampNeg)]; exact hl
      have hl : lv_has ls 3 [(0, .ref xA), (1, .int (nI state.toNatClampNeg)), (2, .int (nI nb.toNatClampNeg))] := by rw [← (z_nn hn0 : nb = nI nb.toNatClampNeg)]; exact hl
      refine lv_aload_n hx hb dX0_seen_42 rfl (lv_at hl 0 rfl) ?_
      refine zr_obV ⟨hx, hb, hml, hown, hts⟩ (mt_xf_hill l G xA xa_trays xa_tape x_taped x_faultKind x_faultAt xa_bad xa_refused 0 x_above x_under nA xa_marks x_markMany xa_pictures x_lead x_round xa_ways x_bestSet x_bestMany x_left xa_aside xa_last x_hasLived uA n_year tA uA_bo uA_st uA_se ulit umayor unight uoil uborn ustays useen tA_be tA_le tA_mo tA_rn tA_cn tA_bo tA_st Wd R thouses talways tnever nr nc tring tbeside tleast tmost trnames hT) (cwV 0 hts (lw_V q841 q843 qs26 q135 q844) rfl rfl rfl hd_X0_hill ⟨(Nat.le_of_ble_eq_true rfl), (Nat.le_of_ble_eq_true rfl)⟩) hP hK (zE_o hE hS) 0 0 rfl rfl rfl hl.1 rfl (Nat.le_of_ble_eq_true rfl) dX0_seen_43 ⟨Nat.le_refl _, Nat.le_refl _⟩ ?_
      refine va_getN (D := G.1) (ci := 5) (v := .ref uA_se) (C := RX5) (T := TX5) (N := 8) hx hb hts in_X5 hown hK.1 hP 2 rfl rfl 3 (Nat.le_of_ble_eq_true rfl) ((hK.2.1.1 _ (List.mem_of_getElem? (i := 24) rfl)).use rfl) (fun _ h => h) rfl dX0_seen_46 ?_
      refine lv_iconst (v := 5) hx hb dX0_seen_49 (by decide) ?_
      refine lv_iload_n hx hb dX0_seen_50 rfl (lv_at hl 1 rfl) ?_
      refine zr_imulN 5 state.toNatClampNeg hx hb dX0_seen_51 ?_
      refine lv_iload_n hx hb dX0_seen_52 rfl (lv_at hl 2 rfl) ?_
      refine zr_iaddN (5 * state.toNatClampNeg) nb.toNatClampNeg hx hb dX0_seen_53 ?_
      refine zr_val (v' := .int (nI (5 * state.toNatClampNeg + nb.toNatClampNeg))) (by rfl) ?_
      refine zr_iald (5 * state.toNatClampNeg + nb.toNatClampNeg) (v := useen (5 * state.toNatClampNeg + nb.toNatClampNeg)) hx hb hK hP 5 rfl rfl (Nat.le_of_ble_eq_true rfl) rfl (by omega) rfl dX0_seen_54 ?_
      have e_ : xf_seen useen state nb = (useen (5 * state.toNatClampNeg + nb.toNatClampNeg), 0) := by rw [xf_seen, if_pos c_1, if_pos c_2]
      exact zr_mi hx hb hr hlocks hP hD hS dX0_seen_55 (by rw [e_])  (by rw [e_]) trivial
