def xS_ (G : zG) (xa_ways : Nat) (xwA : Nat → Nat) (xw : Nat → Nat → Int64) : va_W := [(xa_ways, .inl (G.2 7, 6, .inr (.inr (.inr (.inr (fun k => some (xwA k))))))), (xwA 0, .inl (G.2 1, 1024, .inr (.inl (xw 0)))), (xwA 1, .inl (G.2 1, 1024, .inr (.inl (xw 1)))), (xwA 2, .inl (G.2 1, 1024, .inr (.inl (xw 2)))), (xwA 3, .inl (G.2 1, 1024, .inr (.inl (xw 3)))), (xwA 4, .inl (G.2 1, 1024, .inr (.inl (xw 4)))), (xwA 5, .inl (G.2 1, 1024, .inr (.inl (xw 5))))]
def zupR (f : Nat → Nat → Int64) (y : Nat) (g : Nat → Int64) : Nat → Nat → Int64 := fun j => if j = y then g else f j
theorem xS_get (G : zG) (a : Nat) (ad : Nat → Nat) (xw : Nat → Nat → Int64) (y : Nat) (hy : y < 6) : (xS_ G a ad xw)[1 + y]? = some (ad y, .inl (G.2 1, 1024, .inr (.inl (xw y)))) := by
  match y, hy with
  | 0, _ => rfl
  | 1, _ => rfl
  | 2, _ => rfl
  | 3, _ => rfl
  | 4, _ => rfl
  | 5, _ => rfl
  | n + 6, h => exact absurd h (by omega)
theorem xS_set (G : zG) (a : Nat) (ad : Nat → Nat) (xw : Nat → Nat → Int64) (y : Nat) (hy : y < 6) (g : Nat → Int64) : (xS_ G a ad xw).set (1 + y) (ad y, .inl (G.2 1, 1024, .inr (.inl g))) = xS_ G a ad (zupR xw y g) := by
  match y, hy with
  | 0, _ => rfl
  | 1, _ => rfl
  | 2, _ => rfl
  | 3, _ => rfl
  | 4, _ => rfl
  | 5, _ => rfl
  | n + 6, h => exact absurd h (by omega)
theorem zget4 {α : Type} {a b c d : List α} {i : Nat} {q : α} (h : a[i]? = some q) : (a ++ b ++ c ++ d)[i]? = some q := by
  have hl : i < a.length := (List.getElem?_eq_some_iff.mp h).1
  rw [List.append_assoc, List.append_assoc, List.getElem?_append_left hl]
  exact h
theorem zset4 {α : Type} {a b c d : List α} {i : Nat} {q z : α} (h : a[i]? = some q) : (a ++ b ++ c ++ d).set i z = a.set i z ++ b ++ c ++ d := by
  have hl : i < a.length := (List.getElem?_eq_some_iff.mp h).1
  rw [List.append_assoc, List.append_assoc, List.set_append_left _ _ hl, List.append_assoc, List.append_assoc]
section ZR8
variable {p : Program} {l : Launch} {e : Env} {R : Room} {s : State} {m : MethodId} {args : Array Value} {below : List Frame} {meth : Method} {c : Code} {H : Heap} {locs : List Loc} {cells slots : Nat} {Q : State → Prop}
variable {cc : ByteArray} {pc : Nat} {ls : Array Slot} {rest st : List Value} {G : zG} {A : Nat → Prop} {H0 : Heap} {ws ws' : va_W}
theorem zr_aaldL (k : Nat) {i : Int32} {a n v : Nat} {cA : ClassId} {f : Nat → Option Nat} (hx : p.tables.exec = Jvm.exec) (hb : c.code = cc) (hK : KK G s) (hP : va_P G.1 zcl ws H) (q0 : Nat) (ha : ws[q0]? = some (a, .inl (cA, n, .inr (.inr (.inr (.inr f)))))) (ht : cA = G.2 7) (hn : n < 2 ^ 31) (hk : i = nI k) (hlt : k < n) (hv : f k = some v) (d : decode cc pc = .ok (.aaload, 1))
    (kk : W p l e R s m args below meth c H locs cells slots Q (F0 m (pc + 1) ls (.ref v :: rest))) : W p l e R s m args below meth c H locs cells slots Q (F0 m pc ls (.int i :: .ref a :: rest)) := by
  subst ht
  have hin := z_in hk hlt hn
  have hlt2 : i.toNatClampNeg < n := Nat.not_le.mp fun q => hin (Or.inr q)
  have hkc : i.toNatClampNeg = k := by rw [hk, nI_clamp (Nat.lt_trans hlt hn)]
  exact W.aald (v := .ref v) (ty := .array .long) hx hb (hP q0 _ ha) ((hK.1.2 7 _ rfl).1 n (fun j => va_rf (f j))) rfl (fun q => by cases q) (by show ¬ (i < 0 ∨ (arrV _ _ _).slots.size ≤ _); rw [arrV_size]; exact hin) (by show (arrV _ _ _).slots[_]? = _; rw [arrV_read _ _ hlt2, hkc, hv]; rfl) rfl rfl d kk
end ZR8
def xf_isPattern (Wd : Nat) (thouses : Int32) (talways : Int32) (tnever : Int32) (y : Int32) (row : Int32) : Bool :=
  (if (row &&& ((xf_strip Wd (thouses &&& ((talways ||| tnever) ^^^ (-1))) y) ^^^ (-1))) = (xf_strip Wd talways y) then
    true
  else
    false)
theorem hd_X0_isPattern : yX0_isPattern.cls = RX0 ∧ yX0_isPattern.cls ≠ "java/lang/invoke/MethodHandle" ∧ yX0_isPattern.cls ≠ "java/lang/invoke/VarHandle" ∧ (parseMethodDescriptor yX0_isPattern.desc).map (fun d => d.parameters.length) = some 2 := by decide +kernel
set_option maxHeartbeats 4000000 in
set_option maxRecDepth 100000 in
theorem mt_xf_isPattern (l : Launch) (G : zG) (xA : Nat) (xa_trays : Nat) (xa_tape : Nat) (x_taped : Int32) (x_faultKind : Int32) (x_faultAt : Int32) (xa_bad : Nat) (xa_refused : Nat) (x_status : Int32) (x_above : Int64) (x_under : Int64) (nA : Nat) (xa_marks : Nat) (x_markMany : Int32) (xa_pictures : Nat) (x_lead : Int32) (x_round : Int32) (xa_ways : Nat) (x_bestSet : Int32) (x_bestMany : Int32) (x_left : Int32) (xa_aside : Nat) (xa_last : Nat) (x_hasLived : Bool) (uA : Nat) (n_year : Option Nat) (tA : Nat) (uA_bo : Nat) (uA_st : Nat) (uA_se : Nat) (ulit : Int32) (umayor : Int32) (unight : Int32) (uoil : Int32) (uborn : Nat → Int32) (ustays : Nat → Int32) (useen : Nat → Int32) (tA_be : Nat) (tA_le : Nat) (tA_mo : Nat) (tA_rn : Nat) (tA_cn : Nat) (tA_bo : Nat) (tA_st : Nat) (Wd : Nat) (R : Nat) (thouses : Int32) (talways : Int32) (tnever : Int32) (nr : Nat) (nc : Nat) (tring : Bool) (tbeside : Nat → Int32) (tleast : Nat → Int32) (tmost : Nat → Int32) (trnames : Nat → Int64) (y : Int32) (row : Int32) (hT : tOK Wd R nr nc) : Met l yX0_isPattern (ws_ yX0_isPattern cX0_isPattern 4 (some .boolean)) (zR 3 0 0) (zPo G [.ref xA, .int y, .int row] ((xA_ G xA xa_trays xa_tape x_taped x_faultKind x_faultAt xa_bad xa_refused x_status x_above x_under nA xa_marks x_markMany xa_pictures x_lead x_round xa_ways x_bestSet x_bestMany x_left xa_aside xa_last x_hasLived uA n_year) ++ (hW G uA tA uA_bo uA_st uA_se ulit umayor unight uoil uborn ustays useen) ++ (tW G tA tA_be tA_le tA_mo tA_rn tA_cn tA_bo tA_st (nI Wd) (nI R) thouses talways tnever (nI nr) (nI nc) tring tbeside tleast tmost trnames))) (k2_QcV (.int (zb (xf_isPattern Wd thouses talways tnever y row)))) 0 0 (fun _ => False) := by
  refine zr_entO (by decide) (Nat.le_of_ble_eq_true rfl) ?_
  intro p e s m below meth c ⟨hx, hb, hr, hml, hown, hts, hlocks, hnm⟩ ls hl hP hK hE
  have hown : s.vm.findClass RX0 = some m.cls := hown
  have hl : lv_has ls 4 [(0, .ref xA), (1, .int y), (2, .int row)] := hl
  have hTT := hT
  obtain ⟨hW0, hW5, hR0, hR6, hn4, hc6, hWR⟩ := hTT
  refine lv_aload_n hx hb dX0_isPattern_0 rfl (lv_at hl 0 rfl) ?_
  refine lv_aload_n hx hb dX0_isPattern_1 rfl (lv_at hl 0 rfl) ?_
  refine zr_obV ⟨hx, hb, hml, hown, hts⟩ (mt_xf_at l G xA xa_trays xa_tape x_taped x_faultKind x_faultAt xa_bad xa_refused x_status x_above x_under nA xa_marks x_markMany xa_pictures x_lead x_round xa_ways x_bestSet x_bestMany x_left xa_aside xa_last x_hasLived uA n_year tA uA_bo uA_st uA_se ulit umayor unight uoil uborn ustays useen tA_be tA_le tA_mo tA_rn tA_cn tA_bo tA_st Wd R thouses talways tnever nr nc tring tbeside tleast tmost trnames hT) (cwV 0 hts (lw_V q891 q893 qs28 q135 q894) rfl rfl rfl hd_X0_at ⟨(Nat.le_of_ble_eq_true rfl), (Nat.le_of_ble_eq_true rfl)⟩) hP hK hE 0 0 rfl rfl rfl hl.1 rfl (Nat.le_of_ble_eq_true rfl) dX0_isPattern_2 ⟨Nat.le_refl _, Nat.le_refl _⟩ ?_
  refine zr_obV ⟨hx, hb, hml, hown, hts⟩ (mt_tf_free l G tA tA_be tA_le tA_mo tA_rn tA_cn tA_bo tA_st Wd R thouses talways tnever (nI nr) (nI nc) tring tbeside tleast tmost trnames) (cwV 0 hts (lw_V q1027 q1028 q1029 q143 q1030) rfl rfl rfl hd_X6_free ⟨(Nat.le_of_ble_eq_true rfl), (Nat.le_of_ble_eq_true rfl)⟩) (zP_sub hP (ws' := (tW G tA tA_be tA_le tA_mo tA_rn tA_cn tA_bo tA_st (nI Wd) (nI R) thouses talways tnever (nI nr) (nI nc) tring tbeside tleast tmost trnames)) [6, 7, 8, 9, 10] rfl) hK hE 0 6 rfl rfl rfl hl.1 rfl (Nat.le_of_ble_eq_true rfl) dX0_isPattern_5 ⟨Nat.le_refl _, Nat.le_refl _⟩ ?_
  refine lv_iload_n hx hb dX0_isPattern_8 rfl (lv_at hl 1 rfl) ?_
  refine zr_obV ⟨hx, hb, hml, hown, hts⟩ (mt_xf_strip l G xA xa_trays xa_tape x_taped x_faultKind x_faultAt xa_bad xa_refused x_status x_above x_under nA xa_marks x_markMany xa_pictures x_lead x_round xa_ways x_bestSet x_bestMany x_left xa_aside xa_last x_hasLived uA n_year tA uA_bo uA_st uA_se ulit umayor unight uoil uborn ustays useen tA_be tA_le tA_mo tA_rn tA_cn tA_bo tA_st Wd R thouses talways tnever nr nc tring tbeside tleast tmost trnames (thouses &&& ((talways ||| tnever) ^^^ (-1))) y hT) (cwV 2 hts (lw_V q1057 q1059 qs40 q135 q1060) rfl rfl rfl hd_X0_strip ⟨(Nat.le_of_ble_eq_true rfl), (Nat.le_of_ble_eq_true rfl)⟩) hP hK hE 0 0 rfl rfl rfl hl.1 rfl (Nat.le_of_ble_eq_true rfl) dX0_isPattern_9 ⟨Nat.le_refl _, Nat.le_refl _⟩ ?_
  refine lv_istore_n (lv' := [(3, .int (xf_strip Wd (thouses &&& ((talways ||| tnever) ^^^ (-1))) y)), (0, .ref xA), (1, .int y), (2, .int row)]) hx hb dX0_isPattern_12 rfl hl (by decide) rfl (fun ls hl => ?_)
  refine lv_iload_n hx hb dX0_isPattern_13 rfl (lv_at hl 3 rfl) ?_
  refine lv_iload_n hx hb dX0_isPattern_14 rfl (lv_at hl 0 rfl) ?_
  refine lv_iconst (v := (-1)) hx hb dX0_isPattern_15 (by decide) ?_
  refine lv_ixor hx hb dX0_isPattern_16 ?_
  refine lv_iand hx hb dX0_isPattern_17 ?_
  refine lv_aload_n hx hb dX0_isPattern_18 rfl (lv_at hl 1 rfl) ?_
  refine lv_aload_n hx hb dX0_isPattern_19 rfl (lv_at hl 1 rfl) ?_
  refine zr_obV ⟨hx, hb, hml, hown, hts⟩ (mt_xf_at l G xA xa_trays xa_tape x_taped x_faultKind x_faultAt xa_bad xa_refused x_status x_above x_under nA xa_marks x_markMany xa_pictures x_lead x_round xa_ways x_bestSet x_bestMany x_left xa_aside xa_last x_hasLived uA n_year tA uA_bo uA_st uA_se ulit umayor unight uoil uborn ustays useen tA_be tA_le tA_mo tA_rn tA_cn tA_bo tA_st Wd R thouses talways tnever nr nc tring tbeside tleast tmost trnames hT) (cwV 0 hts (lw_V q891 q893 qs28 q135 q894) rfl rfl rfl hd_X0_at ⟨(Nat.le_of_ble_eq_true rfl), (Nat.le_of_ble_eq_true rfl)⟩) hP hK hE 0 0 rfl rfl rfl hl.1 rfl (Nat.le_of_ble_eq_true rfl) dX0_isPattern_20 ⟨Nat.le_refl _, Nat.le_refl _⟩ ?_
  refine va_getN (D := G.1) (ci := 6) (v := .int talways) (C := RX6) (T := TX6) (N := 15) hx hb hts in_X6 hown hK.1 hP 6 rfl rfl 3 (Nat.le_of_ble_eq_true rfl) ((hK.2.1.1 _ (List.mem_of_getElem? (i := 23) rfl)).use rfl) (fun _ h => h) rfl dX0_isPattern_23 ?_
  refine lv_iload_n hx hb dX0_isPattern_26 rfl (lv_at hl 2 rfl) ?_
  refine zr_obV ⟨hx, hb, hml, hown, hts⟩ (mt_xf_strip l G xA xa_trays xa_tape x_taped x_faultKind x_faultAt xa_bad xa_refused x_status x_above x_under nA xa_marks x_markMany xa_pictures x_lead x_round xa_ways x_bestSet x_bestMany x_left xa_aside xa_last x_hasLived uA n_year tA uA_bo uA_st uA_se ulit umayor unight uoil uborn ustays useen tA_be tA_le tA_mo tA_rn tA_cn tA_bo tA_st Wd R thouses talways tnever nr nc tring tbeside tleast tmost trnames talways y hT) (cwV 2 hts (lw_V q1057 q1059 qs40 q135 q1060) rfl rfl rfl hd_X0_strip ⟨(Nat.le_of_ble_eq_true rfl), (Nat.le_of_ble_eq_true rfl)⟩) hP hK hE 0 0 rfl rfl rfl hl.1 rfl (Nat.le_of_ble_eq_true rfl) dX0_isPattern_27 ⟨Nat.le_refl _, Nat.le_refl _⟩ ?_
  refine lv_icmp_ne (tgt := 37) hx hb dX0_isPattern_30 (by decide) (fun c_1 => ?_) (fun c_1 => ?_)
  · refine lv_iconst (v := 0) hx hb dX0_isPattern_37 (by decide) ?_
    have e_ : xf_isPattern Wd thouses talways tnever y row = false := by rw [xf_isPattern, if_neg c_1]
    exact zr_oz hx hb hr hlocks dX0_isPattern_38 rfl (congrArg (fun z => Value.int (zb z)) e_)
  · refine lv_iconst (v := 1) hx hb dX0_isPattern_33 (by decide) ?_
    refine lv_goto (tgt := 38) hx hb dX0_isPattern_34 (by decide) ?_
    have e_ : xf_isPattern Wd thouses talways tnever y row = true := by rw [xf_isPattern, if_pos c_1]
    exact zr_oz hx hb hr hlocks dX0_isPattern_38 rfl (congrArg (fun z => Value.int (zb z)) e_)
def xf_fits6_V14 (Wd : Nat) (y : Int32) (own : Int32) (target : Int32) (self : Bool) : Int32 :=
  (if self = true then
    own
  else
    (xf_strip Wd target y))
def xf_fits6_V102 (Wd : Nat) (tring : Bool) (s_4 : Nat) : Int32 :=
  (if s_4 = 0 then
    (if (tf_joins Wd tring) = true then
      (nI (Wd - 1))
    else
      (-1))
  else
    (nI (s_4 - 1)))
def xf_fits6_V134 (Wd : Nat) (tring : Bool) (s_4 : Nat) : Int32 :=
  (if Wd ≤ (s_4 + 1) then
    (if (tf_joins Wd tring) = true then
      0
    else
      (-1))
  else
    (nI (s_4 + 1)))
def xf_fits6_V181 (own : Int32) (z_7 : Int32) : Int32 :=
  (if 0 ≤ z_7 then
    ((own >>> (z_7 &&& 31)) &&& 1)
  else
    0)
def xf_fits6_V197 (own : Int32) (z_10 : Int32) : Int32 :=
  (if 0 ≤ z_10 then
    ((own >>> (z_10 &&& 31)) &&& 1)
  else
    0)
def xf_fits6_V226 (own : Int32) (s_4 : Nat) : Bool :=
  (if ((own >>> ((nI s_4) &&& 31)) &&& 1) = 1 then
    true
  else
    false)
def xf_fits6_B82 (umayor : Int32) (uborn : Nat → Int32) (ustays : Nat → Int32) (Wd : Nat) (thouses : Int32) (talways : Int32) (tnever : Int32) (tring : Bool) (y : Int32) (above : Int32) (own : Int32) (undr : Int32) (z_1 : Int32) (s_4 : Nat) : (Nat) ⊕ ((Nat) ⊕ (Bool)) :=
  (if Wd ≤ s_4 then
    .inr (.inl s_4)
  else
    (if (((xf_strip Wd (thouses &&& ((talways ||| tnever) ^^^ (-1))) y) >>> ((nI s_4) &&& 31)) &&& 1) = 0 then
      .inl (s_4 + 1)
    else
      zlet (xf_fits6_V102 Wd tring s_4) (fun z_7 =>
      zlet (xf_fits6_V134 Wd tring s_4) (fun z_10 =>
      zlet (xf_fits6_V181 own z_7) (fun z_13 =>
      zlet (xf_fits6_V197 own z_10) (fun z_15 =>
      zlet (xf_fits6_V226 own s_4) (fun z_17 =>
      (if ((z_1 >>> ((nI s_4) &&& 31)) &&& 1) = 1 then
        (if (zb (hf_becomes uborn ustays umayor z_17 (((((above >>> ((nI s_4) &&& 31)) &&& 1) + ((undr >>> ((nI s_4) &&& 31)) &&& 1)) + z_13) + z_15))) = 1 then
          .inl (s_4 + 1)
        else
          .inr (.inr false))
      else
        (if (zb (hf_becomes uborn ustays umayor z_17 (((((above >>> ((nI s_4) &&& 31)) &&& 1) + ((undr >>> ((nI s_4) &&& 31)) &&& 1)) + z_13) + z_15))) = 0 then
          .inl (s_4 + 1)
        else
          .inr (.inr false))))))))))
def xf_fits6_L82 (umayor : Int32) (uborn : Nat → Int32) (ustays : Nat → Int32) (Wd : Nat) (thouses : Int32) (talways : Int32) (tnever : Int32) (tring : Bool) (y : Int32) (above : Int32) (own : Int32) (undr : Int32) (z_1 : Int32) (s_4 : Nat) : (Nat) ⊕ (Bool) := zw (xf_fits6_B82 umayor uborn ustays Wd thouses talways tnever tring y above own undr z_1) (.inl s_4) ((Wd - s_4) + 1) s_4
def xf_fits6 (umayor : Int32) (uborn : Nat → Int32) (ustays : Nat → Int32) (Wd : Nat) (thouses : Int32) (talways : Int32) (tnever : Int32) (tring : Bool) (y : Int32) (above : Int32) (own : Int32) (undr : Int32) (target : Int32) (self : Bool) : Bool :=
  zlet (xf_fits6_V14 Wd y own target self) (fun z_1 =>
  (if (xf_strip Wd talways y) = (z_1 &&& ((xf_strip Wd (thouses &&& ((talways ||| tnever) ^^^ (-1))) y) ^^^ (-1))) then
    zcase (xf_fits6_L82 umayor uborn ustays Wd thouses talways tnever tring y above own undr z_1 0) (fun t_4 =>
    (if (z_1 &&& ((xf_strip Wd thouses y) ^^^ (-1))) = 0 then
      true
    else
      false)) (fun r => r)
  else
    false))
theorem hd_X0_fits : yX0_fits.cls = RX0 ∧ yX0_fits.cls ≠ "java/lang/invoke/MethodHandle" ∧ yX0_fits.cls ≠ "java/lang/invoke/VarHandle" ∧ (parseMethodDescriptor yX0_fits.desc).map (fun d => d.parameters.length) = some 6 := by decide +kernel
set_option maxHeartbeats 4000000 in
set_option maxRecDepth 100000 in
theorem mt_xf_fits6 (l : Launch) (G : zG) (xA : Nat) (xa_trays : Nat) (xa_tape : Nat) (x_taped : Int32) (x_faultKind : Int32) (x_faultAt : Int32) (xa_bad : Nat) (xa_refused : Nat) (x_status : Int32) (x_above : Int64) (x_under : Int64) (nA : Nat) (xa_marks : Nat) (x_markMany : Int32) (xa_pictures : Nat) (x_lead : Int32) (x_round : Int32) (xa_ways : Nat) (x_bestSet : Int32) (x_bestMany : Int32) (x_left : Int32) (xa_aside : Nat) (xa_last : Nat) (x_hasLived : Bool) (uA : Nat) (n_year : Option Nat) (tA : Nat) (uA_bo : Nat) (uA_st : Nat) (uA_se : Nat) (ulit : Int32) (umayor : Int32) (unight : Int32) (uoil : Int32) (uborn : Nat → Int32) (ustays : Nat → Int32) (useen : Nat → Int32) (tA_be : Nat) (tA_le : Nat) (tA_mo : Nat) (tA_rn : Nat) (tA_cn : Nat) (tA_bo : Nat) (tA_st : Nat) (Wd : Nat) (R : Nat) (thouses : Int32) (talways : Int32) (tnever : Int32) (nr : Nat) (nc : Nat) (tring : Bool) (tbeside : Nat → Int32) (tleast : Nat → Int32) (tmost : Nat → Int32) (trnames : Nat → Int64) (y : Int32) (above : Int32) (own : Int32) (undr : Int32) (target : Int32) (self : Bool) (hT : tOK Wd R nr nc) (hmy : umayor < 0 ∨ (¬ umayor < 0 ∧ umayor.toNatClampNeg < nr)) : Met l yX0_fits (ws_ yX0_fits cX0_fits 15 (some .boolean)) (zR 3 0 0) (zPo G [.ref xA, .int y, .int above, .int own, .int undr, .int target, .int (zb self)] ((xA_ G xA xa_trays xa_tape x_taped x_faultKind x_faultAt xa_bad xa_refused x_status x_above x_under nA xa_marks x_markMany xa_pictures x_lead x_round xa_ways x_bestSet x_bestMany x_left xa_aside xa_last x_hasLived uA n_year) ++ (hW G uA tA uA_bo uA_st uA_se ulit umayor unight uoil uborn ustays useen) ++ (tW G tA tA_be tA_le tA_mo tA_rn tA_cn tA_bo tA_st (nI Wd) (nI R) thouses talways tnever (nI nr) (nI nc) tring tbeside tleast tmost trnames))) (k2_QcV (.int (zb (xf_fits6 umayor uborn ustays Wd thouses talways tnever tring y above own undr target self)))) 0 0 (fun _ => False) := by
  refine zr_entO (by decide) (Nat.le_of_ble_eq_true rfl) ?_
  intro p e s m below meth c ⟨hx, hb, hr, hml, hown, hts, hlocks, hnm⟩ ls hl hP hK hE
  have hown : s.vm.findClass RX0 = some m.cls := hown
  have hl : lv_has ls 15 [(0, .ref xA), (1, .int y), (2, .int above), (3, .int own), (4, .int undr), (5, .int target), (6, .int (zb self))] := hl
  have hTT := hT
  obtain ⟨hW0, hW5, hR0, hR6, hn4, hc6, hWR⟩ := hTT
  refine lv_aload_n hx hb dX0_fits_0 rfl (lv_at hl 0 rfl) ?_
  refine lv_aload_n hx hb dX0_fits_1 rfl (lv_at hl 0 rfl) ?_
  refine zr_obV ⟨hx, hb, hml, hown, hts⟩ (mt_xf_at l G xA xa_trays xa_tape x_taped x_faultKind x_faultAt xa_bad xa_refused x_status x_above x_under nA xa_marks x_markMany xa_pictures x_lead x_round xa_ways x_bestSet x_bestMany x_left xa_aside xa_last x_hasLived uA n_year tA uA_bo uA_st uA_se ulit umayor unight uoil uborn ustays useen tA_be tA_le tA_mo tA_rn tA_cn tA_bo tA_st Wd R thouses talways tnever nr nc tring tbeside tleast tmost trnames hT) (cwV 0 hts (lw_V q891 q893 qs28 q135 q894) rfl rfl rfl hd_X0_at ⟨(Nat.le_of_ble_eq_true rfl), (Nat.le_of_ble_eq_true rfl)⟩) hP hK hE 0 0 rfl rfl rfl hl.1 rfl (Nat.le_of_ble_eq_true rfl) dX0_fits_2 ⟨Nat.le_refl _, Nat.le_refl _⟩ ?_
  refine zr_obV ⟨hx, hb, hml, hown, hts⟩ (mt_tf_free l G tA tA_be tA_le tA_mo tA_rn tA_cn tA_bo tA_st Wd R thouses talways tnever (nI nr) (nI nc) tring tbeside tleast tmost trnames) (cwV 0 hts (lw_V q1027 q1028 q1029 q143 q1030) rfl rfl rfl hd_X6_free ⟨(Nat.le_of_ble_eq_true rfl), (Nat.le_of_ble_eq_true rfl)⟩) (zP_sub hP (ws' := (tW G tA tA_be tA_le tA_mo tA_rn tA_cn tA_bo tA_st (nI Wd) (nI R) thouses talways tnever (nI nr) (nI nc) tring tbeside tleast tmost trnames)) [6, 7, 8, 9, 10] rfl) hK hE 0 6 rfl rfl rfl hl.1 rfl (Nat.le_of_ble_eq_true rfl) dX0_fits_5 ⟨Nat.le_refl _, Nat.le_refl _⟩ ?_
  refine lv_iload_n hx hb dX0_fits_8 rfl (lv_at hl 1 rfl) ?_
  refine zr_obV ⟨hx, hb, hml, hown, hts⟩ (mt_xf_strip l G xA xa_trays xa_tape x_taped x_faultKind x_faultAt xa_bad xa_refused x_status x_above x_under nA xa_marks x_markMany xa_pictures x_lead x_round xa_ways x_bestSet x_bestMany x_left xa_aside xa_last x_hasLived uA n_year tA uA_bo uA_st uA_se ulit umayor unight uoil uborn ustays useen tA_be tA_le tA_mo tA_rn tA_cn tA_bo tA_st Wd R thouses talways tnever nr nc tring tbeside tleast tmost trnames (thouses &&& ((talways ||| tnever) ^^^ (-1))) y hT) (cwV 2 hts (lw_V q1057 q1059 qs40 q135 q1060) rfl rfl rfl hd_X0_strip ⟨(Nat.le_of_ble_eq_true rfl), (Nat.le_of_ble_eq_true rfl)⟩) hP hK hE 0 0 rfl rfl rfl hl.1 rfl (Nat.le_of_ble_eq_true rfl) dX0_fits_9 ⟨Nat.le_refl _, Nat.le_refl _⟩ ?_
  refine lv_istore (lv' := [(7, .int (xf_strip Wd (thouses &&& ((talways ||| tnever) ^^^ (-1))) y)), (0, .ref xA), (1, .int y), (2, .int above), (3, .int own), (4, .int undr), (5, .int target), (6, .int (zb self))]) hx hb dX0_fits_12 hl (by decide) rfl (fun ls hl => ?_)
  have JV_1 : ∀ z_1 : Int32, xf_fits6_V14 Wd y own target self = z_1 → ∀ ls : Array Slot, lv_has ls 15 [(7, .int (xf_strip Wd (thouses &&& ((talways ||| tnever) ^^^ (-1))) y)), (0, .ref xA), (1, .int y), (2, .int above), (3, .int own), (4, .int undr), (5, .int target), (6, .int (zb self))] → W p l e (zR 3 0 0) s m ([.ref xA, .int y, .int above, .int own, .int undr, .int target, .int (zb self)] : List Value).toArray below meth c s.heap [] 0 0 (MQ below (k2_QcV (.int (zb (xf_fits6 umayor uborn ustays Wd thouses talways tnever tring y above own undr target self)))) ([.ref xA, .int y, .int above, .int own, .int undr, .int target, .int (zb self)] : List Value).toArray s 0 0 (fun _ => False)) (F0 m 30 ls [.int z_1]) := by
    intro z_1 hz_1 ls hl
    refine lv_istore (lv' := [(8, .int z_1), (7, .int (xf_strip Wd (thouses &&& ((talways ||| tnever) ^^^ (-1))) y)), (0, .ref xA), (1, .int y), (2, .int above), (3, .int own), (4, .int undr), (5, .int target), (6, .int (zb self))]) hx hb dX0_fits_30 hl (by decide) rfl (fun ls hl => ?_)
    refine lv_aload_n hx hb dX0_fits_32 rfl (lv_at hl 2 rfl) ?_
    refine lv_aload_n hx hb dX0_fits_33 rfl (lv_at hl 2 rfl) ?_
    refine zr_obV ⟨hx, hb, hml, hown, hts⟩ (mt_xf_at l G xA xa_trays xa_tape x_taped x_faultKind x_faultAt xa_bad xa_refused x_status x_above x_under nA xa_marks x_markMany xa_pictures x_lead x_round xa_ways x_bestSet x_bestMany x_left xa_aside xa_last x_hasLived uA n_year tA uA_bo uA_st uA_se ulit umayor unight uoil uborn ustays useen tA_be tA_le tA_mo tA_rn tA_cn tA_bo tA_st Wd R thouses talways tnever nr nc tring tbeside tleast tmost trnames hT) (cwV 0 hts (lw_V q891 q893 qs28 q135 q894) rfl rfl rfl hd_X0_at ⟨(Nat.le_of_ble_eq_true rfl), (Nat.le_of_ble_eq_true rfl)⟩) hP hK hE 0 0 rfl rfl rfl hl.1 rfl (Nat.le_of_ble_eq_true rfl) dX0_fits_34 ⟨Nat.le_refl _, Nat.le_refl _⟩ ?_
    refine va_getN (D := G.1) (ci := 6) (v := .int talways) (C := RX6) (T := TX6) (N := 15) hx hb hts in_X6 hown hK.1 hP 6 rfl rfl 3 (Nat.le_of_ble_eq_true rfl) ((hK.2.1.1 _ (List.mem_of_getElem? (i := 23) rfl)).use rfl) (fun _ h => h) rfl dX0_fits_37 ?_
    refine lv_iload_n hx hb dX0_fits_40 rfl (lv_at hl 3 rfl) ?_
    refine zr_obV ⟨hx, hb, hml, hown, hts⟩ (mt_xf_strip l G xA xa_trays xa_tape x_taped x_faultKind x_faultAt xa_bad xa_refused x_status x_above x_under nA xa_marks x_markMany xa_pictures x_lead x_round xa_ways x_bestSet x_bestMany x_left xa_aside xa_last x_hasLived uA n_year tA uA_bo uA_st uA_se ulit umayor unight uoil uborn ustays useen tA_be tA_le tA_mo tA_rn tA_cn tA_bo tA_st Wd R thouses talways tnever nr nc tring tbeside tleast tmost trnames talways y hT) (cwV 2 hts (lw_V q1057 q1059 qs40 q135 q1060) rfl rfl rfl hd_X0_strip ⟨(Nat.le_of_ble_eq_true rfl), (Nat.le_of_ble_eq_true rfl)⟩) hP hK hE 0 0 rfl rfl rfl hl.1 rfl (Nat.le_of_ble_eq_true rfl) dX0_fits_41 ⟨Nat.le_refl _, Nat.le_refl _⟩ ?_
    refine lv_iload hx hb dX0_fits_44 (lv_at hl 0 rfl) ?_
    refine lv_iload hx hb dX0_fits_46 (lv_at hl 1 rfl) ?_
    refine lv_iconst (v := (-1)) hx hb dX0_fits_48 (by decide) ?_
    refine lv_ixor hx hb dX0_fits_49 ?_
    refine lv_iand hx hb dX0_fits_50 ?_
    refine lv_icmp_eq (tgt := 56) hx hb dX0_fits_51 (by decide) (fun c_3 => ?_) (fun c_3 => ?_)
    · refine lv_aload_n hx hb dX0_fits_56 rfl (lv_at hl 2 rfl) ?_
      refine zr_obV ⟨hx, hb, hml, hown, hts⟩ (mt_xf_at l G xA xa_trays xa_tape x_taped x_faultKind x_faultAt xa_bad xa_refused x_status x_above x_under nA xa_marks x_markMany xa_pictures x_lead x_round xa_ways x_bestSet x_bestMany x_left xa_aside xa_last x_hasLived uA n_year tA uA_bo uA_st uA_se ulit umayor unight uoil uborn ustays useen tA_be tA_le tA_mo tA_rn tA_cn tA_bo tA_st Wd R thouses talways tnever nr nc tring tbeside tleast tmost trnames hT) (cwV 0 hts (lw_V q891 q893 qs28 q135 q894) rfl rfl rfl hd_X0_at ⟨(Nat.le_of_ble_eq_true rfl), (Nat.le_of_ble_eq_true rfl)⟩) hP hK hE 0 0 rfl rfl rfl hl.1 rfl (Nat.le_of_ble_eq_true rfl) dX0_fits_57 ⟨Nat.le_refl _, Nat.le_refl _⟩ ?_
      refine va_getN (D := G.1) (ci := 6) (v := .int (nI Wd)) (C := RX6) (T := TX6) (N := 15) hx hb hts in_X6 hown hK.1 hP 6 rfl rfl 0 (Nat.le_of_ble_eq_true rfl) ((hK.2.1.1 _ (List.mem_of_getElem? (i := 4) rfl)).use rfl) (fun _ h => h) rfl dX0_fits_60 ?_
      refine lv_istore (lv' := [(9, .int (nI Wd)), (8, .int z_1), (7, .int (xf_strip Wd (thouses &&& ((talways ||| tnever) ^^^ (-1))) y)), (0, .ref xA), (1, .int y), (2, .int above), (3, .int own), (4, .int undr), (5, .int target), (6, .int (zb self))]) hx hb dX0_fits_63 hl (by decide) rfl (fun ls hl => ?_)
      refine lv_aload_n hx hb dX0_fits_65 rfl (lv_at hl 3 rfl) ?_
      refine lv_aload_n hx hb dX0_fits_66 rfl (lv_at hl 3 rfl) ?_
      refine zr_obV ⟨hx, hb, hml, hown, hts⟩ (mt_xf_at l G xA xa_trays xa_tape x_taped x_faultKind x_faultAt xa_bad xa_refused x_status x_above x_under nA xa_marks x_markMany xa_pictures x_lead x_round xa_ways x_bestSet x_bestMany x_left xa_aside xa_last x_hasLived uA n_year tA uA_bo uA_st uA_se ulit umayor unight uoil uborn ustays useen tA_be tA_le tA_mo tA_rn tA_cn tA_bo tA_st Wd R thouses talways tnever nr nc tring tbeside tleast tmost trnames hT) (cwV 0 hts (lw_V q891 q893 qs28 q135 q894) rfl rfl rfl hd_X0_at ⟨(Nat.le_of_ble_eq_true rfl), (Nat.le_of_ble_eq_true rfl)⟩) hP hK hE 0 0 rfl rfl rfl hl.1 rfl (Nat.le_of_ble_eq_true rfl) dX0_fits_67 ⟨Nat.le_refl _, Nat.le_refl _⟩ ?_
      refine va_getN (D := G.1) (ci := 6) (v := .int thouses) (C := RX6) (T := TX6) (N := 15) hx hb hts in_X6 hown hK.1 hP 6 rfl rfl 2 (Nat.le_of_ble_eq_true rfl) ((hK.2.1.1 _ (List.mem_of_getElem? (i := 12) rfl)).use rfl) (fun _ h => h) rfl dX0_fits_70 ?_
      refine lv_iload_n hx hb dX0_fits_73 rfl (lv_at hl 4 rfl) ?_
      refine zr_obV ⟨hx, hb, hml, hown, hts⟩ (mt_xf_strip l G xA xa_trays xa_tape x_taped x_faultKind x_faultAt xa_bad xa_refused x_status x_above x_under nA xa_marks x_markMany xa_pictures x_lead x_round xa_ways x_bestSet x_bestMany x_left xa_aside xa_last x_hasLived uA n_year tA uA_bo uA_st uA_se ulit umayor unight uoil uborn ustays useen tA_be tA_le tA_mo tA_rn tA_cn tA_bo tA_st Wd R thouses talways tnever nr nc tring tbeside tleast tmost trnames thouses y hT) (cwV 2 hts (lw_V q1057 q1059 qs40 q135 q1060) rfl rfl rfl hd_X0_strip ⟨(Nat.le_of_ble_eq_true rfl), (Nat.le_of_ble_eq_true rfl)⟩) hP hK hE 0 0 rfl rfl rfl hl.1 rfl (Nat.le_of_ble_eq_true rfl) dX0_fits_74 ⟨Nat.le_refl _, Nat.le_refl _⟩ ?_
      refine lv_istore (lv' := [(10, .int (xf_strip Wd thouses y)), (9, .int (nI Wd)), (8, .int z_1), (7, .int (xf_strip Wd (thouses &&& ((talways ||| tnever) ^^^ (-1))) y)), (0, .ref xA), (1, .int y), (2, .int above), (3, .int own), (4, .int undr), (5, .int target), (6, .int (zb self))]) hx hb dX0_fits_77 hl (by decide) rfl (fun ls hl => ?_)
      refine lv_iconst (v := 0) hx hb dX0_fits_79 (by decide) ?_
      refine lv_istore (lv' := [(11, .int 0), (10, .int (xf_strip Wd thouses y)), (9, .int (nI Wd)), (8, .int z_1), (7, .int (xf_strip Wd (thouses &&& ((talways ||| tnever) ^^^ (-1))) y)), (0, .ref xA), (1, .int y), (2, .int above), (3, .int own), (4, .int undr), (5, .int target), (6, .int (zb self))]) hx hb dX0_fits_80 hl (by decide) rfl (fun ls hl => ?_)
      have hx_4 : ∀ t_4 : Nat, xf_fits6_L82 umayor uborn ustays Wd thouses talways tnever tring y above own undr z_1 0 = .inl t_4 → ∀ ls : Array Slot, lv_has ls 15 [(10, .int (xf_strip Wd thouses y)), (8, .int z_1)] → W p l e (zR 3 0 0) s m ([.ref xA, .int y, .int above, .int own, .int undr, .int target, .int (zb self)] : List Value).toArray below meth c s.heap [] 0 0 (MQ below (k2_QcV (.int (zb (xf_fits6 umayor uborn ustays Wd thouses talways tnever tring y above own undr target self)))) ([.ref xA, .int y, .int above, .int own, .int undr, .int target, .int (zb self)] : List Value).toArray s 0 0 (fun _ => False)) (F0 m 273 ls []) := by
        intro t_4 ht_4 ls hl
        refine lv_iload hx hb dX0_fits_273 (lv_at hl 1 rfl) ?_
        refine lv_iload hx hb dX0_fits_275 (lv_at hl 0 rfl) ?_
        refine lv_iconst (v := (-1)) hx hb dX0_fits_277 (by decide) ?_
        refine lv_ixor hx hb dX0_fits_278 ?_
        refine lv_iand hx hb dX0_fits_279 ?_
        refine lv_if_ne (tgt := 287) hx hb dX0_fits_280 (by decide) (fun c_22 => ?_) (fun c_22 => ?_)
        · refine lv_iconst (v := 0) hx hb dX0_fits_287 (by decide) ?_
          have e_ : xf_fits6 umayor uborn ustays Wd thouses talways tnever tring y above own undr target self = false := by rw [xf_fits6, zlet_eq hz_1, if_pos c_3, zcase_l ht_4, if_neg c_22]
          exact zr_oz hx hb hr hlocks dX0_fits_288 rfl (congrArg (fun z => Value.int (zb z)) e_)
        · refine lv_iconst (v := 1) hx hb dX0_fits_283 (by decide) ?_
          refine lv_goto (tgt := 288) hx hb dX0_fits_284 (by decide) ?_
          have e_ : xf_fits6 umayor uborn ustays Wd thouses talways tnever tring y above own undr target self = true := by rw [xf_fits6, zlet_eq hz_1, if_pos c_3, zcase_l ht_4, if_pos c_22]
          exact zr_oz hx hb hr hlocks dX0_fits_288 rfl (congrArg (fun z => Value.int (zb z)) e_)
      have hlp_4 : ∀ (n : Nat) (s_4 : Nat), Wd - s_4 < n → zw (xf_fits6_B82 umayor uborn ustays Wd thouses talways tnever tring y above own undr z_1) (.inl 0) n s_4 = xf_fits6_L82 umayor uborn ustays Wd thouses talways tnever tring y above own undr z_1 0 → s_4 ≤ Wd → ∀ ls : Array Slot, lv_has ls 15 [(11, .int (nI s_4)), (10, .int (xf_strip Wd thouses y)), (9, .int (nI Wd)), (8, .int z_1), (7, .int (xf_strip Wd (thouses &&& ((talways ||| tnever) ^^^ (-1))) y)), (0, .ref xA), (2, .int above), (3, .int own), (4, .int undr)] → W p l e (zR 3 0 0) s m ([.ref xA, .int y, .int above, .int own, .int undr, .int target, .int (zb self)] : List Value).toArray below meth c s.heap [] 0 0 (MQ below (k2_QcV (.int (zb (xf_fits6 umayor uborn ustays Wd thouses talways tnever tring y above own undr target self)))) ([.ref xA, .int y, .int above, .int own, .int undr, .int target, .int (zb self)] : List Value).toArray s 0 0 (fun _ => False)) (F0 m 82 ls []) := by
        intro n
        induction n with
        | zero => exact fun _ h => absurd h (Nat.not_lt_zero _)
        | succ n ih_4 =>
          intro s_4 hmu_4 hR_4 hi11 ls hl
          refine lv_iload hx hb dX0_fits_82 (lv_at hl 0 rfl) ?_
          refine lv_iload hx hb dX0_fits_84 (lv_at hl 2 rfl) ?_
          refine zr_ge s_4 Wd (by omega) (by omega) (tgt := 273) hx hb dX0_fits_86 (by decide) (fun c_5 => ?_) (fun c_5 => ?_)
          · exact hx_4 s_4 (hR_4.symm.trans (zw_r (by rw [xf_fits6_B82, if_pos c_5]))) ls (lv_sub hl [1, 3] rfl)
          · refine lv_iload hx hb dX0_fits_89 (lv_at hl 4 rfl) ?_
            refine lv_iload hx hb dX0_fits_91 (lv_at hl 0 rfl) ?_
            refine lv_ishr hx hb dX0_fits_93 ?_
            refine lv_iconst (v := 1) hx hb dX0_fits_94 (by decide) ?_
            refine lv_iand hx hb dX0_fits_95 ?_
            refine lv_if_ne (tgt := 102) hx hb dX0_fits_96 (by decide) (fun c_6 => ?_) (fun c_6 => ?_)
            · have JV_7 : ∀ z_7 : Int32, xf_fits6_V102 Wd tring s_4 = z_7 → ∀ ls : Array Slot, lv_has ls 15 [(11, .int (nI s_4)), (10, .int (xf_strip Wd thouses y)), (9, .int (nI Wd)), (8, .int z_1), (7, .int (xf_strip Wd (thouses &&& ((talways ||| tnever) ^^^ (-1))) y)), (0, .ref xA), (2, .int above), (3, .int own), (4, .int undr)] → W p l e (zR 3 0 0) s m ([.ref xA, .int y, .int above, .int own, .int undr, .int target, .int (zb self)] : List Value).toArray below meth c s.heap [] 0 0 (MQ below (k2_QcV (.int (zb (xf_fits6 umayor uborn ustays Wd thouses talways tnever tring y above own undr target self)))) ([.ref xA, .int y, .int above, .int own, .int undr, .int target, .int (zb self)] : List Value).toArray s 0 0 (fun _ => False)) (F0 m 132 ls [.int z_7]) := by
                intro z_7 hz_7 ls hl
                refine lv_istore (lv' := [(12, .int z_7), (11, .int (nI s_4)), (10, .int (xf_strip Wd thouses y)), (9, .int (nI Wd)), (8, .int z_1), (7, .int (xf_strip Wd (thouses &&& ((talways ||| tnever) ^^^ (-1))) y)), (0, .ref xA), (2, .int above), (3, .int own), (4, .int undr)]) hx hb dX0_fits_132 hl (by decide) rfl (fun ls hl => ?_)
                have JV_10 : ∀ z_10 : Int32, xf_fits6_V134 Wd tring s_4 = z_10 → ∀ ls : Array Slot, lv_has ls 15 [(12, .int z_7), (11, .int (nI s_4)), (10, .int (xf_strip Wd thouses y)), (9, .int (nI Wd)), (8, .int z_1), (7, .int (xf_strip Wd (thouses &&& ((talways ||| tnever) ^^^ (-1))) y)), (0, .ref xA), (2, .int above), (3, .int own), (4, .int undr)] → W p l e (zR 3 0 0) s m ([.ref xA, .int y, .int above, .int own, .int undr, .int target, .int (zb self)] : List Value).toArray below meth c s.heap [] 0 0 (MQ below (k2_QcV (.int (zb (xf_fits6 umayor uborn ustays Wd thouses talways tnever tring y above own undr target self)))) ([.ref xA, .int y, .int above, .int own, .int undr, .int target, .int (zb self)] : List Value).toArray s 0 0 (fun _ => False)) (F0 m 165 ls [.int z_10]) := by
                  intro z_10 hz_10 ls hl
                  refine lv_istore (lv' := [(13, .int z_10), (12, .int z_7), (11, .int (nI s_4)), (10, .int (xf_strip Wd thouses y)), (9, .int (nI Wd)), (8, .int z_1), (7, .int (xf_strip Wd (thouses &&& ((talways ||| tnever) ^^^ (-1))) y)), (0, .ref xA), (2, .int above), (3, .int own), (4, .int undr)]) hx hb dX0_fits_165 hl (by decide) rfl (fun ls hl => ?_)
                  refine lv_iload_n hx hb dX0_fits_167 rfl (lv_at hl 8 rfl) ?_
                  refine lv_iload hx hb dX0_fits_168 (lv_at hl 2 rfl) ?_
                  refine lv_ishr hx hb dX0_fits_170 ?_
                  refine lv_iconst (v := 1) hx hb dX0_fits_171 (by decide) ?_
                  refine lv_iand hx hb dX0_fits_172 ?_
                  refine lv_iload hx hb dX0_fits_173 (lv_at hl 10 rfl) ?_
                  refine lv_iload hx hb dX0_fits_175 (lv_at hl 2 rfl) ?_
                  refine lv_ishr hx hb dX0_fits_177 ?_
                  refine lv_iconst (v := 1) hx hb dX0_fits_178 (by decide) ?_
                  refine lv_iand hx hb dX0_fits_179 ?_
                  refine lv_iadd hx hb dX0_fits_180 ?_
                  have JV_13 : ∀ z_13 : Int32, xf_fits6_V181 own z_7 = z_13 → ∀ ls : Array Slot, lv_has ls 15 [(13, .int z_10), (12, .int z_7), (11, .int (nI s_4)), (10, .int (xf_strip Wd thouses y)), (9, .int (nI Wd)), (8, .int z_1), (7, .int (xf_strip Wd (thouses &&& ((talways ||| tnever) ^^^ (-1))) y)), (0, .ref xA), (2, .int above), (3, .int own), (4, .int undr)] → W p l e (zR 3 0 0) s m ([.ref xA, .int y, .int above, .int own, .int undr, .int target, .int (zb self)] : List Value).toArray below meth c s.heap [] 0 0 (MQ below (k2_QcV (.int (zb (xf_fits6 umayor uborn ustays Wd thouses talways tnever tring y above own undr target self)))) ([.ref xA, .int y, .int above, .int own, .int undr, .int target, .int (zb self)] : List Value).toArray s 0 0 (fun _ => False)) (F0 m 196 ls [.int z_13, .int (((above >>> ((nI s_4) &&& 31)) &&& 1) + ((undr >>> ((nI s_4) &&& 31)) &&& 1))]) := by
                    intro z_13 hz_13 ls hl
                    refine lv_iadd hx hb dX0_fits_196 ?_
                    have JV_15 : ∀ z_15 : Int32, xf_fits6_V197 own z_10 = z_15 → ∀ ls : Array Slot, lv_has ls 15 [(13, .int z_10), (12, .int z_7), (11, .int (nI s_4)), (10, .int (xf_strip Wd thouses y)), (9, .int (nI Wd)), (8, .int z_1), (7, .int (xf_strip Wd (thouses &&& ((talways ||| tnever) ^^^ (-1))) y)), (0, .ref xA), (2, .int above), (3, .int own), (4, .int undr)] → W p l e (zR 3 0 0) s m ([.ref xA, .int y, .int above, .int own, .int undr, .int target, .int (zb self)] : List Value).toArray below meth c s.heap [] 0 0 (MQ below (k2_QcV (.int (zb (xf_fits6 umayor uborn ustays Wd thouses talways tnever tring y above own undr target self)))) ([.ref xA, .int y, .int above, .int own, .int undr, .int target, .int (zb self)] : List Value).toArray s 0 0 (fun _ => False)) (F0 m 212 ls [.int z_15, .int ((((above >>> ((nI s_4) &&& 31)) &&& 1) + ((undr >>> ((nI s_4) &&& 31)) &&& 1)) + z_13)]) := by
                      intro z_15 hz_15 ls hl
                      refine lv_iadd hx hb dX0_fits_212 ?_
                      refine lv_istore (lv' := [(14, .int (((((above >>> ((nI s_4) &&& 31)) &&& 1) + ((undr >>> ((nI s_4) &&& 31)) &&& 1)) + z_13) + z_15)), (13, .int z_10), (12, .int z_7), (11, .int (nI s_4)), (10, .int (xf_strip Wd thouses y)), (9, .int (nI Wd)), (8, .int z_1), (7, .int (xf_strip Wd (thouses &&& ((talways ||| tnever) ^^^ (-1))) y)), (0, .ref xA), (2, .int above), (3, .int own), (4, .int undr)]) hx hb dX0_fits_213 hl (by decide) rfl (fun ls hl => ?_)
                      refine lv_aload_n hx hb dX0_fits_215 rfl (lv_at hl 8 rfl) ?_
                      refine zr_obV ⟨hx, hb, hml, hown, hts⟩ (mt_xf_hill l G xA xa_trays xa_tape x_taped x_faultKind x_faultAt xa_bad xa_refused x_status x_above x_under nA xa_marks x_markMany xa_pictures x_lead x_round xa_ways x_bestSet x_bestMany x_left xa_aside xa_last x_hasLived uA n_year tA uA_bo uA_st uA_se ulit umayor unight uoil uborn ustays useen tA_be tA_le tA_mo tA_rn tA_cn tA_bo tA_st Wd R thouses talways tnever nr nc tring tbeside tleast tmost trnames hT) (cwV 0 hts (lw_V q841 q843 qs26 q135 q844) rfl rfl rfl hd_X0_hill ⟨(Nat.le_of_ble_eq_true rfl), (Nat.le_of_ble_eq_true rfl)⟩) hP hK hE 0 0 rfl rfl rfl hl.1 rfl (Nat.le_of_ble_eq_true rfl) dX0_fits_216 ⟨Nat.le_refl _, Nat.le_refl _⟩ ?_
                      refine lv_aload_n hx hb dX0_fits_219 rfl (lv_at hl 8 rfl) ?_
                      refine zr_obV ⟨hx, hb, hml, hown, hts⟩ (mt_xf_hill l G xA xa_trays xa_tape x_taped x_faultKind x_faultAt xa_bad xa_refused x_status x_above x_under nA xa_marks x_markMany xa_pictures x_lead x_round xa_ways x_bestSet x_bestMany x_left xa_aside xa_last x_hasLived uA n_year tA uA_bo uA_st uA_se ulit umayor unight uoil uborn ustays useen tA_be tA_le tA_mo tA_rn tA_cn tA_bo tA_st Wd R thouses talways tnever nr nc tring tbeside tleast tmost trnames hT) (cwV 0 hts (lw_V q841 q843 qs26 q135 q844) rfl rfl rfl hd_X0_hill ⟨(Nat.le_of_ble_eq_true rfl), (Nat.le_of_ble_eq_true rfl)⟩) hP hK hE 0 0 rfl rfl rfl hl.1 rfl (Nat.le_of_ble_eq_true rfl) dX0_fits_220 ⟨Nat.le_refl _, Nat.le_refl _⟩ ?_
                      refine va_getN (D := G.1) (ci := 5) (v := .int umayor) (C := RX5) (T := TX5) (N := 8) hx hb hts in_X5 hown hK.1 hP 2 rfl rfl 5 (Nat.le_of_ble_eq_true rfl) ((hK.2.1.1 _ (List.mem_of_getElem? (i := 17) rfl)).use rfl) (fun _ h => h) rfl dX0_fits_223 ?_
                      have JV_17 : ∀ z_17 : Bool, xf_fits6_V226 own s_4 = z_17 → ∀ ls : Array Slot, lv_has ls 15 [(14, .int (((((above >>> ((nI s_4) &&& 31)) &&& 1) + ((undr >>> ((nI s_4) &&& 31)) &&& 1)) + z_13) + z_15)), (13, .int z_10), (12, .int z_7), (11, .int (nI s_4)), (10, .int (xf_strip Wd thouses y)), (9, .int (nI Wd)), (8, .int z_1), (7, .int (xf_strip Wd (thouses &&& ((talways ||| tnever) ^^^ (-1))) y)), (0, .ref xA), (2, .int above), (3, .int own), (4, .int undr)] → W p l e (zR 3 0 0) s m ([.ref xA, .int y, .int above, .int own, .int undr, .int target, .int (zb self)] : List Value).toArray below meth c s.heap [] 0 0 (MQ below (k2_QcV (.int (zb (xf_fits6 umayor uborn ustays Wd thouses talways tnever tring y above own undr target self)))) ([.ref xA, .int y, .int above, .int own, .int undr, .int target, .int (zb self)] : List Value).toArray s 0 0 (fun _ => False)) (F0 m 241 ls [.int (zb z_17), .int umayor, .ref uA]) := by
                        intro z_17 hz_17 ls hl
                        refine lv_iload hx hb dX0_fits_241 (lv_at hl 0 rfl) ?_
                        refine zr_obV ⟨hx, hb, hml, hown, hts⟩ (mt_hf_becomes l G uA tA uA_bo uA_st uA_se ulit umayor unight uoil uborn ustays useen tA_be tA_le tA_mo tA_rn tA_cn tA_bo tA_st Wd R thouses talways tnever nr nc tring tbeside tleast tmost trnames umayor z_17 (((((above >>> ((nI s_4) &&& 31)) &&& 1) + ((undr >>> ((nI s_4) &&& 31)) &&& 1)) + z_13) + z_15) hT hmy) (cwV 3 hts (lw_V q1171 q1093 q1094 q142 q1095) rfl rfl rfl hd_X5_becomes ⟨(Nat.le_of_ble_eq_true rfl), (Nat.le_of_ble_eq_true rfl)⟩) (zP_sub hP (ws' := ((hW G uA tA uA_bo uA_st uA_se ulit umayor unight uoil uborn ustays useen) ++ (tW G tA tA_be tA_le tA_mo tA_rn tA_cn tA_bo tA_st (nI Wd) (nI R) thouses talways tnever (nI nr) (nI nc) tring tbeside tleast tmost trnames))) [2, 3, 4, 5, 6, 7, 8, 9, 10] rfl) hK hE 0 5 rfl rfl rfl hl.1 rfl (Nat.le_of_ble_eq_true rfl) dX0_fits_243 ⟨Nat.le_refl _, Nat.le_refl _⟩ ?_
                        refine lv_iload hx hb dX0_fits_246 (lv_at hl 6 rfl) ?_
                        refine lv_iload hx hb dX0_fits_248 (lv_at hl 3 rfl) ?_
                        refine lv_ishr hx hb dX0_fits_250 ?_
                        refine lv_iconst (v := 1) hx hb dX0_fits_251 (by decide) ?_
                        refine lv_iand hx hb dX0_fits_252 ?_
                        refine lv_iconst (v := 1) hx hb dX0_fits_253 (by decide) ?_
                        refine lv_icmp_ne (tgt := 261) hx hb dX0_fits_254 (by decide) (fun c_19 => ?_) (fun c_19 => ?_)
                        · refine lv_iconst (v := 0) hx hb dX0_fits_261 (by decide) ?_
                          refine lv_icmp_eq (tgt := 267) hx hb dX0_fits_262 (by decide) (fun c_20 => ?_) (fun c_20 => ?_)
                          · refine lv_iinc (v := nI (s_4 + 1)) (lv' := [(11, .int (nI (s_4 + 1))), (14, .int (((((above >>> ((nI s_4) &&& 31)) &&& 1) + ((undr >>> ((nI s_4) &&& 31)) &&& 1)) + z_13) + z_15)), (13, .int z_10), (12, .int z_7), (10, .int (xf_strip Wd thouses y)), (9, .int (nI Wd)), (8, .int z_1), (7, .int (xf_strip Wd (thouses &&& ((talways ||| tnever) ^^^ (-1))) y)), (0, .ref xA), (2, .int above), (3, .int own), (4, .int undr)]) hx hb dX0_fits_267 hl (k := 3) rfl (nI_add s_4 1) (by decide) rfl (fun ls hl => ?_)
                            refine lv_goto (tgt := 82) hx hb dX0_fits_270 (by decide) ?_
                            exact ih_4 (s_4 + 1) (by omega) ((zw_l (by rw [xf_fits6_B82, if_neg c_5, if_neg c_6, zlet_eq hz_7, zlet_eq hz_10, zlet_eq hz_13, zlet_eq hz_15, zlet_eq hz_17, if_neg c_19, if_pos c_20])).symm.trans hR_4) (by omega) ls (lv_sub hl [0, 4, 5, 6, 7, 8, 9, 10, 11] rfl)
                          · refine lv_iconst (v := 0) hx hb dX0_fits_265 (by decide) ?_
                            have hr_4 : xf_fits6_L82 umayor uborn ustays Wd thouses talways tnever tring y above own undr z_1 0 = .inr false := hR_4.symm.trans (zw_r (by rw [xf_fits6_B82, if_neg c_5, if_neg c_6, zlet_eq hz_7, zlet_eq hz_10, zlet_eq hz_13, zlet_eq hz_15, zlet_eq hz_17, if_neg c_19, if_neg c_20]))
                            have e_ : xf_fits6 umayor uborn ustays Wd thouses talways tnever tring y above own undr target self = false := by rw [xf_fits6, zlet_eq hz_1, if_pos c_3, zcase_r hr_4]
                            exact zr_oz hx hb hr hlocks dX0_fits_266 rfl (congrArg (fun z => Value.int (zb z)) e_)
                        · refine lv_iconst (v := 1) hx hb dX0_fits_257 (by decide) ?_
                          refine lv_goto (tgt := 262) hx hb dX0_fits_258 (by decide) ?_
                          refine lv_icmp_eq (tgt := 267) hx hb dX0_fits_262 (by decide) (fun c_21 => ?_) (fun c_21 => ?_)
                          · refine lv_iinc (v := nI (s_4 + 1)) (lv' := [(11, .int (nI (s_4 + 1))), (14, .int (((((above >>> ((nI s_4) &&& 31)) &&& 1) + ((undr >>> ((nI s_4) &&& 31)) &&& 1)) + z_13) + z_15)), (13, .int z_10), (12, .int z_7), (10, .int (xf_strip Wd thouses y)), (9, .int (nI Wd)), (8, .int z_1), (7, .int (xf_strip Wd (thouses &&& ((talways ||| tnever) ^^^ (-1))) y)), (0, .ref xA), (2, .int above), (3, .int own), (4, .int undr)]) hx hb dX0_fits_267 hl (k := 3) rfl (nI_add s_4 1) (by decide) rfl (fun ls hl => ?_)
                            refine lv_goto (tgt := 82) hx hb dX0_fits_270 (by decide) ?_
                            exact ih_4 (s_4 + 1) (by omega) ((zw_l (by rw [xf_fits6_B82, if_neg c_5, if_neg c_6, zlet_eq hz_7, zlet_eq hz_10, zlet_eq hz_13, zlet_eq hz_15, zlet_eq hz_17, if_pos c_19, if_pos c_21])).symm.trans hR_4) (by omega) ls (lv_sub hl [0, 4, 5, 6, 7, 8, 9, 10, 11] rfl)
                          · refine lv_iconst (v := 0) hx hb dX0_fits_265 (by decide) ?_
                            have hr_4 : xf_fits6_L82 umayor uborn ustays Wd thouses talways tnever tring y above own undr z_1 0 = .inr false := hR_4.symm.trans (zw_r (by rw [xf_fits6_B82, if_neg c_5, if_neg c_6, zlet_eq hz_7, zlet_eq hz_10, zlet_eq hz_13, zlet_eq hz_15, zlet_eq hz_17, if_pos c_19, if_neg c_21]))
                            have e_ : xf_fits6 umayor uborn ustays Wd thouses talways tnever tring y above own undr target self = false := by rw [xf_fits6, zlet_eq hz_1, if_pos c_3, zcase_r hr_4]
                            exact zr_oz hx hb hr hlocks dX0_fits_266 rfl (congrArg (fun z => Value.int (zb z)) e_)
                      refine lv_iload_n hx hb dX0_fits_226 rfl (lv_at hl 10 rfl) ?_
                      refine lv_iload hx hb dX0_fits_227 (lv_at hl 3 rfl) ?_
                      refine lv_ishr hx hb dX0_fits_229 ?_
                      refine lv_iconst (v := 1) hx hb dX0_fits_230 (by decide) ?_
                      refine lv_iand hx hb dX0_fits_231 ?_
                      refine lv_iconst (v := 1) hx hb dX0_fits_232 (by decide) ?_
                      refine lv_icmp_ne (tgt := 240) hx hb dX0_fits_233 (by decide) (fun c_18 => ?_) (fun c_18 => ?_)
                      · refine lv_iconst (v := 0) hx hb dX0_fits_240 (by decide) ?_
                        exact JV_17 false (by rw [xf_fits6_V226, if_neg c_18]) ls (lv_sub hl [0, 1, 2, 3, 4, 5, 6, 7, 8, 9, 10, 11] rfl)
                      · refine lv_iconst (v := 1) hx hb dX0_fits_236 (by decide) ?_
                        refine lv_goto (tgt := 241) hx hb dX0_fits_237 (by decide) ?_
                        exact JV_17 true (by rw [xf_fits6_V226, if_pos c_18]) ls (lv_sub hl [0, 1, 2, 3, 4, 5, 6, 7, 8, 9, 10, 11] rfl)
                    refine lv_iload hx hb dX0_fits_197 (lv_at hl 0 rfl) ?_
                    refine lv_if_ge (tgt := 206) hx hb dX0_fits_199 (by decide) (fun c_16 => ?_) (fun c_16 => ?_)
                    · refine lv_iload_n hx hb dX0_fits_206 rfl (lv_at hl 9 rfl) ?_
                      refine lv_iload hx hb dX0_fits_207 (lv_at hl 0 rfl) ?_
                      refine lv_ishr hx hb dX0_fits_209 ?_
                      refine lv_iconst (v := 1) hx hb dX0_fits_210 (by decide) ?_
                      refine lv_iand hx hb dX0_fits_211 ?_
                      exact JV_15 ((own >>> (z_10 &&& 31)) &&& 1) (by rw [xf_fits6_V197, if_pos c_16]) ls (lv_sub hl [0, 1, 2, 3, 4, 5, 6, 7, 8, 9, 10] rfl)
                    · refine lv_iconst (v := 0) hx hb dX0_fits_202 (by decide) ?_
                      refine lv_goto (tgt := 212) hx hb dX0_fits_203 (by decide) ?_
                      exact JV_15 0 (by rw [xf_fits6_V197, if_neg c_16]) ls (lv_sub hl [0, 1, 2, 3, 4, 5, 6, 7, 8, 9, 10] rfl)
                  refine lv_iload hx hb dX0_fits_181 (lv_at hl 1 rfl) ?_
                  refine lv_if_ge (tgt := 190) hx hb dX0_fits_183 (by decide) (fun c_14 => ?_) (fun c_14 => ?_)
                  · refine lv_iload_n hx hb dX0_fits_190 rfl (lv_at hl 9 rfl) ?_
                    refine lv_iload hx hb dX0_fits_191 (lv_at hl 1 rfl) ?_
                    refine lv_ishr hx hb dX0_fits_193 ?_
                    refine lv_iconst (v := 1) hx hb dX0_fits_194 (by decide) ?_
                    refine lv_iand hx hb dX0_fits_195 ?_
                    exact JV_13 ((own >>> (z_7 &&& 31)) &&& 1) (by rw [xf_fits6_V181, if_pos c_14]) ls (lv_sub hl [0, 1, 2, 3, 4, 5, 6, 7, 8, 9, 10] rfl)
                  · refine lv_iconst (v := 0) hx hb dX0_fits_186 (by decide) ?_
                    refine lv_goto (tgt := 196) hx hb dX0_fits_187 (by decide) ?_
                    exact JV_13 0 (by rw [xf_fits6_V181, if_neg c_14]) ls (lv_sub hl [0, 1, 2, 3, 4, 5, 6, 7, 8, 9, 10] rfl)
                refine lv_iload hx hb dX0_fits_134 (lv_at hl 1 rfl) ?_
                refine lv_iconst (v := 1) hx hb dX0_fits_136 (by decide) ?_
                refine zr_iaddN s_4 1 hx hb dX0_fits_137 ?_
                refine lv_iload hx hb dX0_fits_138 (lv_at hl 3 rfl) ?_
                refine zr_ge (s_4 + 1) Wd (by omega) (by omega) (tgt := 150) hx hb dX0_fits_140 (by decide) (fun c_11 => ?_) (fun c_11 => ?_)
                · refine lv_aload_n hx hb dX0_fits_150 rfl (lv_at hl 6 rfl) ?_
                  refine zr_obV ⟨hx, hb, hml, hown, hts⟩ (mt_xf_at l G xA xa_trays xa_tape x_taped x_faultKind x_faultAt xa_bad xa_refused x_status x_above x_under nA xa_marks x_markMany xa_pictures x_lead x_round xa_ways x_bestSet x_bestMany x_left xa_aside xa_last x_hasLived uA n_year tA uA_bo uA_st uA_se ulit umayor unight uoil uborn ustays useen tA_be tA_le tA_mo tA_rn tA_cn tA_bo tA_st Wd R thouses talways tnever nr nc tring tbeside tleast tmost trnames hT) (cwV 0 hts (lw_V q891 q893 qs28 q135 q894) rfl rfl rfl hd_X0_at ⟨(Nat.le_of_ble_eq_true rfl), (Nat.le_of_ble_eq_true rfl)⟩) hP hK hE 0 0 rfl rfl rfl hl.1 rfl (Nat.le_of_ble_eq_true rfl) dX0_fits_151 ⟨Nat.le_refl _, Nat.le_refl _⟩ ?_
                  refine zr_obV ⟨hx, hb, hml, hown, hts⟩ (mt_tf_joins l G tA tA_be tA_le tA_mo tA_rn tA_cn tA_bo tA_st Wd R thouses talways tnever (nI nr) (nI nc) tring tbeside tleast tmost trnames (by first | assumption | exact hW5 | omega)) (cwV 0 hts (lw_V q976 q838 q839 q143 q840) rfl rfl rfl hd_X6_joins ⟨(Nat.le_of_ble_eq_true rfl), (Nat.le_of_ble_eq_true rfl)⟩) (zP_sub hP (ws' := (tW G tA tA_be tA_le tA_mo tA_rn tA_cn tA_bo tA_st (nI Wd) (nI R) thouses talways tnever (nI nr) (nI nc) tring tbeside tleast tmost trnames)) [6, 7, 8, 9, 10] rfl) hK hE 0 6 rfl rfl rfl hl.1 rfl (Nat.le_of_ble_eq_true rfl) dX0_fits_154 ⟨Nat.le_refl _, Nat.le_refl _⟩ ?_
                  refine zr_eqB (tf_joins Wd tring) (tgt := 164) hx hb dX0_fits_157 (by decide) (fun c_12 => ?_) (fun c_12 => ?_)
                  · refine lv_iconst (v := (-1)) hx hb dX0_fits_164 (by decide) ?_
                    exact JV_10 (-1) (by rw [xf_fits6_V134, if_pos c_11, if_neg c_12]) ls (lv_sub hl [0, 1, 2, 3, 4, 5, 6, 7, 8, 9] rfl)
                  · refine lv_iconst (v := 0) hx hb dX0_fits_160 (by decide) ?_
                    refine lv_goto (tgt := 165) hx hb dX0_fits_161 (by decide) ?_
                    exact JV_10 0 (by rw [xf_fits6_V134, if_pos c_11, if_pos c_12]) ls (lv_sub hl [0, 1, 2, 3, 4, 5, 6, 7, 8, 9] rfl)
                · refine lv_iload hx hb dX0_fits_143 (lv_at hl 1 rfl) ?_
                  refine lv_iconst (v := 1) hx hb dX0_fits_145 (by decide) ?_
                  refine zr_iaddN s_4 1 hx hb dX0_fits_146 ?_
                  refine lv_goto (tgt := 165) hx hb dX0_fits_147 (by decide) ?_
                  exact JV_10 (nI (s_4 + 1)) (by rw [xf_fits6_V134, if_neg c_11]) ls (lv_sub hl [0, 1, 2, 3, 4, 5, 6, 7, 8, 9] rfl)
              refine lv_iload hx hb dX0_fits_102 (lv_at hl 0 rfl) ?_
              refine zr_ifleN s_4 (by omega) (tgt := 114) hx hb dX0_fits_104 (by decide) (fun c_8 => ?_) (fun c_8 => ?_)
              · refine lv_aload_n hx hb dX0_fits_114 rfl (lv_at hl 5 rfl) ?_
                refine zr_obV ⟨hx, hb, hml, hown, hts⟩ (mt_xf_at l G xA xa_trays xa_tape x_taped x_faultKind x_faultAt xa_bad xa_refused x_status x_above x_under nA xa_marks x_markMany xa_pictures x_lead x_round xa_ways x_bestSet x_bestMany x_left xa_aside xa_last x_hasLived uA n_year tA uA_bo uA_st uA_se ulit umayor unight uoil uborn ustays useen tA_be tA_le tA_mo tA_rn tA_cn tA_bo tA_st Wd R thouses talways tnever nr nc tring tbeside tleast tmost trnames hT) (cwV 0 hts (lw_V q891 q893 qs28 q135 q894) rfl rfl rfl hd_X0_at ⟨(Nat.le_of_ble_eq_true rfl), (Nat.le_of_ble_eq_true rfl)⟩) hP hK hE 0 0 rfl rfl rfl hl.1 rfl (Nat.le_of_ble_eq_true rfl) dX0_fits_115 ⟨Nat.le_refl _, Nat.le_refl _⟩ ?_
                refine zr_obV ⟨hx, hb, hml, hown, hts⟩ (mt_tf_joins l G tA tA_be tA_le tA_mo tA_rn tA_cn tA_bo tA_st Wd R thouses talways tnever (nI nr) (nI nc) tring tbeside tleast tmost trnames (by first | assumption | exact hW5 | omega)) (cwV 0 hts (lw_V q976 q838 q839 q143 q840) rfl rfl rfl hd_X6_joins ⟨(Nat.le_of_ble_eq_true rfl), (Nat.le_of_ble_eq_true rfl)⟩) (zP_sub hP (ws' := (tW G tA tA_be tA_le tA_mo tA_rn tA_cn tA_bo tA_st (nI Wd) (nI R) thouses talways tnever (nI nr) (nI nc) tring tbeside tleast tmost trnames)) [6, 7, 8, 9, 10] rfl) hK hE 0 6 rfl rfl rfl hl.1 rfl (Nat.le_of_ble_eq_true rfl) dX0_fits_118 ⟨Nat.le_refl _, Nat.le_refl _⟩ ?_
                refine zr_eqB (tf_joins Wd tring) (tgt := 131) hx hb dX0_fits_121 (by decide) (fun c_9 => ?_) (fun c_9 => ?_)
                · refine lv_iconst (v := (-1)) hx hb dX0_fits_131 (by decide) ?_
                  exact JV_7 (-1) (by rw [xf_fits6_V102, if_pos c_8, if_neg c_9]) ls (lv_sub hl [0, 1, 2, 3, 4, 5, 6, 7, 8] rfl)
                · refine lv_iload hx hb dX0_fits_124 (lv_at hl 2 rfl) ?_
                  refine lv_iconst (v := 1) hx hb dX0_fits_126 (by decide) ?_
                  refine zr_isubN Wd 1 (by omega) hx hb dX0_fits_127 ?_
                  refine lv_goto (tgt := 132) hx hb dX0_fits_128 (by decide) ?_
                  exact JV_7 (nI (Wd - 1)) (by rw [xf_fits6_V102, if_pos c_8, if_pos c_9]) ls (lv_sub hl [0, 1, 2, 3, 4, 5, 6, 7, 8] rfl)
              · refine lv_iload hx hb dX0_fits_107 (lv_at hl 0 rfl) ?_
                refine lv_iconst (v := 1) hx hb dX0_fits_109 (by decide) ?_
                refine zr_isubN s_4 1 (by omega) hx hb dX0_fits_110 ?_
                refine lv_goto (tgt := 132) hx hb dX0_fits_111 (by decide) ?_
                exact JV_7 (nI (s_4 - 1)) (by rw [xf_fits6_V102, if_neg c_8]) ls (lv_sub hl [0, 1, 2, 3, 4, 5, 6, 7, 8] rfl)
            · refine lv_goto (tgt := 267) hx hb dX0_fits_99 (by decide) ?_
              refine lv_iinc (v := nI (s_4 + 1)) (lv' := [(11, .int (nI (s_4 + 1))), (10, .int (xf_strip Wd thouses y)), (9, .int (nI Wd)), (8, .int z_1), (7, .int (xf_strip Wd (thouses &&& ((talways ||| tnever) ^^^ (-1))) y)), (0, .ref xA), (2, .int above), (3, .int own), (4, .int undr)]) hx hb dX0_fits_267 hl (k := 0) rfl (nI_add s_4 1) (by decide) rfl (fun ls hl => ?_)
              refine lv_goto (tgt := 82) hx hb dX0_fits_270 (by decide) ?_
              exact ih_4 (s_4 + 1) (by omega) ((zw_l (by rw [xf_fits6_B82, if_neg c_5, if_pos c_6])).symm.trans hR_4) (by omega) ls (lv_sub hl [0, 1, 2, 3, 4, 5, 6, 7, 8] rfl)
      exact hlp_4 _ 0 (Nat.lt_succ_self _) (by rw [xf_fits6_L82]) (by omega) ls (lv_sub hl [0, 1, 2, 3, 4, 5, 7, 8, 9] rfl)
    · refine lv_iconst (v := 0) hx hb dX0_fits_54 (by decide) ?_
      have e_ : xf_fits6 umayor uborn ustays Wd thouses talways tnever tring y above own undr target self = false := by rw [xf_fits6, zlet_eq hz_1, if_neg c_3]
      exact zr_oz hx hb hr hlocks dX0_fits_55 rfl (congrArg (fun z => Value.int (zb z)) e_)
  refine lv_iload hx hb dX0_fits_14 (lv_at hl 7 rfl) ?_
  refine zr_eqB self (tgt := 23) hx hb dX0_fits_16 (by decide) (fun c_2 => ?_) (fun c_2 => ?_)
  · refine lv_aload_n hx hb dX0_fits_23 rfl (lv_at hl 1 rfl) ?_
    refine lv_iload hx hb dX0_fits_24 (lv_at hl 6 rfl) ?_
    refine lv_iload_n hx hb dX0_fits_26 rfl (lv_at hl 2 rfl) ?_
    refine zr_obV ⟨hx, hb, hml, hown, hts⟩ (mt_xf_strip l G xA xa_trays xa_tape x_taped x_faultKind x_faultAt xa_bad xa_refused x_status x_above x_under nA xa_marks x_markMany xa_pictures x_lead x_round xa_ways x_bestSet x_bestMany x_left xa_aside xa_last x_hasLived uA n_year tA uA_bo uA_st uA_se ulit umayor unight uoil uborn ustays useen tA_be tA_le tA_mo tA_rn tA_cn tA_bo tA_st Wd R thouses talways tnever nr nc tring tbeside tleast tmost trnames target y hT) (cwV 2 hts (lw_V q1057 q1059 qs40 q135 q1060) rfl rfl rfl hd_X0_strip ⟨(Nat.le_of_ble_eq_true rfl), (Nat.le_of_ble_eq_true rfl)⟩) hP hK hE 0 0 rfl rfl rfl hl.1 rfl (Nat.le_of_ble_eq_true rfl) dX0_fits_27 ⟨Nat.le_refl _, Nat.le_refl _⟩ ?_
    exact JV_1 (xf_strip Wd target y) (by rw [xf_fits6_V14, if_neg c_2]) ls (lv_sub hl [0, 1, 2, 3, 4, 5, 6, 7] rfl)
  · refine lv_iload_n hx hb dX0_fits_19 rfl (lv_at hl 4 rfl) ?_
    refine lv_goto (tgt := 30) hx hb dX0_fits_20 (by decide) ?_
    exact JV_1 own (by rw [xf_fits6_V14, if_pos c_2]) ls (lv_sub hl [0, 1, 2, 3, 4, 5, 6, 7] rfl)
def xf_fill_B80 (umayor : Int32) (uborn : Nat → Int32) (ustays : Nat → Int32) (Wd : Nat) (thouses : Int32) (talways : Int32) (tnever : Int32) (tring : Bool) (target : Int32) (self : Bool) (k_1 : Nat) (k_2 : Nat) (s_3 : (Nat → Nat → Int64)) (k_3 : Nat) (k_6 : Nat) (s_6 : Int64) : Int64 :=
  (if 0 < (s_3 (k_1 - 1) (32 * k_6 + k_2)) then
    (if (xf_fits6 umayor uborn ustays Wd thouses talways tnever tring ((nI k_1) - 1) (nI k_6) (nI k_2) (nI k_3) target self) = true then
      s_6 + (s_3 (k_1 - 1) (32 * k_6 + k_2))
    else
      s_6)
  else
    s_6)
def xf_fill_L80 (umayor : Int32) (uborn : Nat → Int32) (ustays : Nat → Int32) (Wd : Nat) (thouses : Int32) (talways : Int32) (tnever : Int32) (tring : Bool) (target : Int32) (self : Bool) (k_1 : Nat) (k_2 : Nat) (s_3 : (Nat → Nat → Int64)) (k_3 : Nat) (s_6 : Int64) : Int64 := zf (xf_fill_B80 umayor uborn ustays Wd thouses talways tnever tring target self k_1 k_2 s_3 k_3) s_6 (zpw Wd)
def xf_fill_B37 (umayor : Int32) (uborn : Nat → Int32) (ustays : Nat → Int32) (Wd : Nat) (thouses : Int32) (talways : Int32) (tnever : Int32) (tring : Bool) (target : Int32) (self : Bool) (k_1 : Nat) (k_2 : Nat) (k_3 : Nat) (s_3 : (Nat → Nat → Int64)) : (Nat → Nat → Int64) :=
  (if (xf_isPattern Wd thouses talways tnever (nI k_1) (nI k_3)) = true then
    (if k_1 = 0 then
      (if k_2 = 0 then
        zupR s_3 k_1 (vp_updL (s_3 k_1) (32 * k_2 + k_3) 1)
      else
        zupR s_3 k_1 (vp_updL (s_3 k_1) (32 * k_2 + k_3) 0))
    else
      zlet (xf_fill_L80 umayor uborn ustays Wd thouses talways tnever tring target self k_1 k_2 s_3 k_3 0) (fun s_6 =>
      zupR s_3 k_1 (vp_updL (s_3 k_1) (32 * k_2 + k_3) s_6)))
  else
    zupR s_3 k_1 (vp_updL (s_3 k_1) (32 * k_2 + k_3) 0))
def xf_fill_L37 (umayor : Int32) (uborn : Nat → Int32) (ustays : Nat → Int32) (Wd : Nat) (thouses : Int32) (talways : Int32) (tnever : Int32) (tring : Bool) (target : Int32) (self : Bool) (k_1 : Nat) (k_2 : Nat) (s_3 : (Nat → Nat → Int64)) : (Nat → Nat → Int64) := zf (xf_fill_B37 umayor uborn ustays Wd thouses talways tnever tring target self k_1 k_2) s_3 (zpw Wd)
def xf_fill_B28 (umayor : Int32) (uborn : Nat → Int32) (ustays : Nat → Int32) (Wd : Nat) (thouses : Int32) (talways : Int32) (tnever : Int32) (tring : Bool) (target : Int32) (self : Bool) (k_1 : Nat) (k_2 : Nat) (s_2 : (Nat → Nat → Int64)) : (Nat → Nat → Int64) :=
  zlet (xf_fill_L37 umayor uborn ustays Wd thouses talways tnever tring target self k_1 k_2 s_2) (fun s_3 =>
  s_3)
def xf_fill_L28 (umayor : Int32) (uborn : Nat → Int32) (ustays : Nat → Int32) (Wd : Nat) (thouses : Int32) (talways : Int32) (tnever : Int32) (tring : Bool) (target : Int32) (self : Bool) (k_1 : Nat) (s_2 : (Nat → Nat → Int64)) : (Nat → Nat → Int64) := zf (xf_fill_B28 umayor uborn ustays Wd thouses talways tnever tring target self k_1) s_2 (zpw Wd)
def xf_fill_B13 (umayor : Int32) (uborn : Nat → Int32) (ustays : Nat → Int32) (Wd : Nat) (R : Nat) (thouses : Int32) (talways : Int32) (tnever : Int32) (tring : Bool) (target : Int32) (self : Bool) (k_1 : Nat) (s_1 : (Nat → Nat → Int64)) : (Nat → Nat → Int64) :=
  zlet (xf_fill_L28 umayor uborn ustays Wd thouses talways tnever tring target self k_1 s_1) (fun s_2 =>
  s_2)
def xf_fill_L13 (umayor : Int32) (uborn : Nat → Int32) (ustays : Nat → Int32) (Wd : Nat) (R : Nat) (thouses : Int32) (talways : Int32) (tnever : Int32) (tring : Bool) (target : Int32) (self : Bool) (s_1 : (Nat → Nat → Int64)) : (Nat → Nat → Int64) := zf (xf_fill_B13 umayor uborn ustays Wd R thouses talways tnever tring target self) s_1 R
def xf_fill (xw : Nat → Nat → Int64) (umayor : Int32) (uborn : Nat → Int32) (ustays : Nat → Int32) (Wd : Nat) (R : Nat) (thouses : Int32) (talways : Int32) (tnever : Int32) (tring : Bool) (target : Int32) (self : Bool) : (Nat → Nat → Int64) :=
  zlet (xf_fill_L13 umayor uborn ustays Wd R thouses talways tnever tring target self xw) (fun s_1 =>
  s_1)
theorem hd_X0_fill : yX0_fill.cls = RX0 ∧ yX0_fill.cls ≠ "java/lang/invoke/MethodHandle" ∧ yX0_fill.cls ≠ "java/lang/invoke/VarHandle" ∧ (parseMethodDescriptor yX0_fill.desc).map (fun d => d.parameters.length) = some 2 := by decide +kernel
set_option maxHeartbeats 4000000 in
set_option maxRecDepth 100000 in
theorem mt_xf_fill (l : Launch) (G : zG) (xa_ways : Nat) (xwA : Nat → Nat) (xw : Nat → Nat → Int64) (xA : Nat) (xa_trays : Nat) (xa_tape : Nat) (x_taped : Int32) (x_faultKind : Int32) (x_faultAt : Int32) (xa_bad : Nat) (xa_refused : Nat) (x_status : Int32) (x_above : Int64) (x_under : Int64) (nA : Nat) (xa_marks : Nat) (x_markMany : Int32) (xa_pictures : Nat) (x_lead : Int32) (x_round : Int32) (x_bestSet : Int32) (x_bestMany : Int32) (x_left : Int32) (xa_aside : Nat) (xa_last : Nat) (x_hasLived : Bool) (uA : Nat) (n_year : Option Nat) (tA : Nat) (uA_bo : Nat) (uA_st : Nat) (uA_se : Nat) (ulit : Int32) (umayor : Int32) (unight : Int32) (uoil : Int32) (uborn : Nat → Int32) (ustays : Nat → Int32) (useen : Nat → Int32) (tA_be : Nat) (tA_le : Nat) (tA_mo : Nat) (tA_rn : Nat) (tA_cn : Nat) (tA_bo : Nat) (tA_st : Nat) (Wd : Nat) (R : Nat) (thouses : Int32) (talways : Int32) (tnever : Int32) (nr : Nat) (nc : Nat) (tring : Bool) (tbeside : Nat → Int32) (tleast : Nat → Int32) (tmost : Nat → Int32) (trnames : Nat → Int64) (target : Int32) (self : Bool) (hT : tOK Wd R nr nc) (hmy : umayor < 0 ∨ (¬ umayor < 0 ∧ umayor.toNatClampNeg < nr)) (sz : Nat) : Met l yX0_fill (ws_ yX0_fill cX0_fill 10 none) (zR 4 0 0) (zPm G sz [.ref xA, .int target, .int (zb self)] ((xS_ G xa_ways xwA xw) ++ (xA_ G xA xa_trays xa_tape x_taped x_faultKind x_faultAt xa_bad xa_refused x_status x_above x_under nA xa_marks x_markMany xa_pictures x_lead x_round xa_ways x_bestSet x_bestMany x_left xa_aside xa_last x_hasLived uA n_year) ++ (hW G uA tA uA_bo uA_st uA_se ulit umayor unight uoil uborn ustays useen) ++ (tW G tA tA_be tA_le tA_mo tA_rn tA_cn tA_bo tA_st (nI Wd) (nI R) thouses talways tnever (nI nr) (nI nc) tring tbeside tleast tmost trnames))) (zQm G (True) none ((xS_ G xa_ways xwA (xf_fill xw umayor uborn ustays Wd R thouses talways tnever tring target self)) ++ (xA_ G xA xa_trays xa_tape x_taped x_faultKind x_faultAt xa_bad xa_refused x_status x_above x_under nA xa_marks x_markMany xa_pictures x_lead x_round xa_ways x_bestSet x_bestMany x_left xa_aside xa_last x_hasLived uA n_year) ++ (hW G uA tA uA_bo uA_st uA_se ulit umayor unight uoil uborn ustays useen) ++ (tW G tA tA_be tA_le tA_mo tA_rn tA_cn tA_bo tA_st (nI Wd) (nI R) thouses talways tnever (nI nr) (nI nc) tring tbeside tleast tmost trnames)) (va_A ((xS_ G xa_ways xwA xw) ++ (xA_ G xA xa_trays xa_tape x_taped x_faultKind x_faultAt xa_bad xa_refused x_status x_above x_under nA xa_marks x_markMany xa_pictures x_lead x_round xa_ways x_bestSet x_bestMany x_left xa_aside xa_last x_hasLived uA n_year) ++ (hW G uA tA uA_bo uA_st uA_se ulit umayor unight uoil uborn ustays useen) ++ (tW G tA tA_be tA_le tA_mo tA_rn tA_cn tA_bo tA_st (nI Wd) (nI R) thouses talways tnever (nI nr) (nI nc) tring tbeside tleast tmost trnames)) sz)) 0 0 (va_A ((xS_ G xa_ways xwA xw) ++ (xA_ G xA xa_trays xa_tape x_taped x_faultKind x_faultAt xa_bad xa_refused x_status x_above x_under nA xa_marks x_markMany xa_pictures x_lead x_round xa_ways x_bestSet x_bestMany x_left xa_aside xa_last x_hasLived uA n_year) ++ (hW G uA tA uA_bo uA_st uA_se ulit umayor unight uoil uborn ustays useen) ++ (tW G tA tA_be tA_le tA_mo tA_rn tA_cn tA_bo tA_st (nI Wd) (nI R) thouses talways tnever (nI nr) (nI nc) tring tbeside tleast tmost trnames)) sz) := by
  refine zr_entM (by decide) (Nat.le_of_ble_eq_true rfl) ?_
  intro p e s m below meth c ⟨hx, hb, hr, hml, hown, hts, hlocks, hnm⟩ ls hl hP hK A hE hA hD hS
  have hown : s.vm.findClass RX0 = some m.cls := hown
  have hl : lv_has ls 10 [(0, .ref xA), (1, .int target), (2, .int (zb self))] := hl
  obtain ⟨H, hH⟩ : ∃ H, H = s.heap := ⟨_, rfl⟩
  obtain ⟨locs, hlo⟩ : ∃ L : List Loc, L = [] := ⟨_, rfl⟩
  rw [← hH] at hP
  have hS : va_S A s.heap H locs := by rw [hH, hlo]; exact va_S.rf
  have hgo : W p l e (zR 4 0 0) s m ([.ref xA, .int target, .int (zb self)] : List Value).toArray below meth c H locs 0 0 (MQ below (zQm G (True) none ((xS_ G xa_ways xwA (xf_fill xw umayor uborn ustays Wd R thouses talways tnever tring target self)) ++ (xA_ G xA xa_trays xa_tape x_taped x_faultKind x_faultAt xa_bad xa_refused x_status x_above x_under nA xa_marks x_markMany xa_pictures x_lead x_round xa_ways x_bestSet x_bestMany x_left xa_aside xa_last x_hasLived uA n_year) ++ (hW G uA tA uA_bo uA_st uA_se ulit umayor unight uoil uborn ustays useen) ++ (tW G tA tA_be tA_le tA_mo tA_rn tA_cn tA_bo tA_st (nI Wd) (nI R) thouses talways tnever (nI nr) (nI nc) tring tbeside tleast tmost trnames)) A) ([.ref xA, .int target, .int (zb self)] : List Value).toArray s 0 0 A) (F0 m 0 ls []) := ?_
  · rw [hH, hlo] at hgo; exact hgo
  clear hH hlo
  have hTT := hT
  obtain ⟨hW0, hW5, hR0, hR6, hn4, hc6, hWR⟩ := hTT
  have hpw := zpw_le Wd (by omega)
  have hpw1 := zpw_1 Wd (by omega)
  refine lv_iconst (v := 1) hx hb dX0_fill_0 (by decide) ?_
  refine lv_aload_n hx hb dX0_fill_1 rfl (lv_at hl 0 rfl) ?_
  refine zr_obV ⟨hx, hb, hml, hown, hts⟩ (mt_xf_at l G xA xa_trays xa_tape x_taped x_faultKind x_faultAt xa_bad xa_refused x_status x_above x_under nA xa_marks x_markMany xa_pictures x_lead x_round xa_ways x_bestSet x_bestMany x_left xa_aside xa_last x_hasLived uA n_year tA uA_bo uA_st uA_se ulit umayor unight uoil uborn ustays useen tA_be tA_le tA_mo tA_rn tA_cn tA_bo tA_st Wd R thouses talways tnever nr nc tring tbeside tleast tmost trnames hT) (cwV 0 hts (lw_V q891 q893 qs28 q135 q894) rfl rfl rfl hd_X0_at ⟨(Nat.le_of_ble_eq_true rfl), (Nat.le_of_ble_eq_true rfl)⟩) (zP_sub hP (ws' := ((xA_ G xA xa_trays xa_tape x_taped x_faultKind x_faultAt xa_bad xa_refused x_status x_above x_under nA xa_marks x_markMany xa_pictures x_lead x_round xa_ways x_bestSet x_bestMany x_left xa_aside xa_last x_hasLived uA n_year) ++ (hW G uA tA uA_bo uA_st uA_se ulit umayor unight uoil uborn ustays useen) ++ (tW G tA tA_be tA_le tA_mo tA_rn tA_cn tA_bo tA_st (nI Wd) (nI R) thouses talways tnever (nI nr) (nI nc) tring tbeside tleast tmost trnames))) [7, 8, 9, 10, 11, 12, 13, 14, 15, 16, 17] rfl) hK (zE_o hE hS) 0 0 rfl rfl rfl hl.1 rfl (Nat.le_of_ble_eq_true rfl) dX0_fill_2 ⟨Nat.le_refl _, Nat.le_refl _⟩ ?_
  refine va_getN (D := G.1) (ci := 6) (v := .int (nI Wd)) (C := RX6) (T := TX6) (N := 15) hx hb hts in_X6 hown hK.1 hP 13 rfl rfl 0 (Nat.le_of_ble_eq_true rfl) ((hK.2.1.1 _ (List.mem_of_getElem? (i := 4) rfl)).use rfl) (fun _ h => h) rfl dX0_fill_5 ?_
  refine lv_ishl hx hb dX0_fill_8 ?_
  refine zr_val (congrArg Value.int (zpw_e Wd (by omega))) ?_
  refine W.eq (g2 := F0 m 9 ls [.int (nI (zpw Wd))]) rfl ?_
  refine lv_istore_n (lv' := [(3, .int (nI (zpw Wd))), (0, .ref xA), (1, .int target), (2, .int (zb self))]) hx hb dX0_fill_9 rfl hl (by decide) rfl (fun ls hl => ?_)
  refine lv_iconst (v := 0) hx hb dX0_fill_10 (by decide) ?_
  refine lv_istore (lv' := [(4, .int 0), (3, .int (nI (zpw Wd))), (0, .ref xA), (1, .int target), (2, .int (zb self))]) hx hb dX0_fill_11 hl (by decide) rfl (fun ls hl => ?_)
  have hlp_1 : ∀ (n k_1 : Nat) (s_1 : (Nat → Nat → Int64)), k_1 ≤ R → R < k_1 + n → zf (xf_fill_B13 umayor uborn ustays Wd R thouses talways tnever tring target self) xw k_1 = s_1 → ∀ (H : Heap) (locs : List Loc), va_P G.1 zcl ((xS_ G xa_ways xwA s_1) ++ (xA_ G xA xa_trays xa_tape x_taped x_faultKind x_faultAt xa_bad xa_refused x_status x_above x_under nA xa_marks x_markMany xa_pictures x_lead x_round xa_ways x_bestSet x_bestMany x_left xa_aside xa_last x_hasLived uA n_year) ++ (hW G uA tA uA_bo uA_st uA_se ulit umayor unight uoil uborn ustays useen) ++ (tW G tA tA_be tA_le tA_mo tA_rn tA_cn tA_bo tA_st (nI Wd) (nI R) thouses talways tnever (nI nr) (nI nc) tring tbeside tleast tmost trnames)) H → va_D A ((xS_ G xa_ways xwA s_1) ++ (xA_ G xA xa_trays xa_tape x_taped x_faultKind x_faultAt xa_bad xa_refused x_status x_above x_under nA xa_marks x_markMany xa_pictures x_lead x_round xa_ways x_bestSet x_bestMany x_left xa_aside xa_last x_hasLived uA n_year) ++ (hW G uA tA uA_bo uA_st uA_se ulit umayor unight uoil uborn ustays useen) ++ (tW G tA tA_be tA_le tA_mo tA_rn tA_cn tA_bo tA_st (nI Wd) (nI R) thouses talways tnever (nI nr) (nI nc) tring tbeside tleast tmost trnames)) → va_S A s.heap H locs → ∀ ls : Array Slot, lv_has ls 10 [(4, .int (nI k_1)), (3, .int (nI (zpw Wd))), (0, .ref xA), (1, .int target), (2, .int (zb self))] → W p l e (zR 4 0 0) s m ([.ref xA, .int target, .int (zb self)] : List Value).toArray below meth c H locs 0 0 (MQ below (zQm G (True) none ((xS_ G xa_ways xwA (xf_fill xw umayor uborn ustays Wd R thouses talways tnever tring target self)) ++ (xA_ G xA xa_trays xa_tape x_taped x_faultKind x_faultAt xa_bad xa_refused x_status x_above x_under nA xa_marks x_markMany xa_pictures x_lead x_round xa_ways x_bestSet x_bestMany x_left xa_aside xa_last x_hasLived uA n_year) ++ (hW G uA tA uA_bo uA_st uA_se ulit umayor unight uoil uborn ustays useen) ++ (tW G tA tA_be tA_le tA_mo tA_rn tA_cn tA_bo tA_st (nI Wd) (nI R) thouses talways tnever (nI nr) (nI nc) tring tbeside tleast tmost trnames)) A) ([.ref xA, .int target, .int (zb self)] : List Value).toArray s 0 0 A) (F0 m 13 ls []) := by
    intro n
    induction n with
    | zero => intro k_1 s_1 h1 h2; exact absurd h2 (by omega)
    | succ n ih_1 =>
      intro k_1 s_1 hk_1 hn_1 hst_1 H locs hP hD hS ls hl
      refine lv_iload hx hb dX0_fill_13 (lv_at hl 0 rfl) ?_
      refine lv_aload_n hx hb dX0_fill_15 rfl (lv_at hl 2 rfl) ?_
      refine zr_obV ⟨hx, hb, hml, hown, hts⟩ (mt_xf_at l G xA xa_trays xa_tape x_taped x_faultKind x_faultAt xa_bad xa_refused x_status x_above x_under nA xa_marks x_markMany xa_pictures x_lead x_round xa_ways x_bestSet x_bestMany x_left xa_aside xa_last x_hasLived uA n_year tA uA_bo uA_st uA_se ulit umayor unight uoil uborn ustays useen tA_be tA_le tA_mo tA_rn tA_cn tA_bo tA_st Wd R thouses talways tnever nr nc tring tbeside tleast tmost trnames hT) (cwV 0 hts (lw_V q891 q893 qs28 q135 q894) rfl rfl rfl hd_X0_at ⟨(Nat.le_of_ble_eq_true rfl), (Nat.le_of_ble_eq_true rfl)⟩) (zP_sub hP (ws' := ((xA_ G xA xa_trays xa_tape x_taped x_faultKind x_faultAt xa_bad xa_refused x_status x_above x_under nA xa_marks x_markMany xa_pictures x_lead x_round xa_ways x_bestSet x_bestMany x_left xa_aside xa_last x_hasLived uA n_year) ++ (hW G uA tA uA_bo uA_st uA_se ulit umayor unight uoil uborn ustays useen) ++ (tW G tA tA_be tA_le tA_mo tA_rn tA_cn tA_bo tA_st (nI Wd) (nI R) thouses talways tnever (nI nr) (nI nc) tring tbeside tleast tmost trnames))) [7, 8, 9, 10, 11, 12, 13, 14, 15, 16, 17] rfl) hK (zE_o hE hS) 0 0 rfl rfl rfl hl.1 rfl (Nat.le_of_ble_eq_true rfl) dX0_fill_16 ⟨Nat.le_refl _, Nat.le_refl _⟩ ?_
      refine va_getN (D := G.1) (ci := 6) (v := .int (nI R)) (C := RX6) (T := TX6) (N := 15) hx hb hts in_X6 hown hK.1 hP 13 rfl rfl 1 (Nat.le_of_ble_eq_true rfl) ((hK.2.1.1 _ (List.mem_of_getElem? (i := 5) rfl)).use rfl) (fun _ h => h) rfl dX0_fill_19 ?_
      refine zr_ge k_1 R (by omega) (by omega) (tgt := 193) hx hb dX0_fill_22 (by decide) (fun c_1 => ?_) (fun c_1 => ?_)
      · have ek_1 : k_1 = R := Nat.le_antisymm hk_1 c_1
        have hs_1 : xf_fill_L13 umayor uborn ustays Wd R thouses talways tnever tring target self xw = s_1 := by rw [ek_1] at hst_1; exact hst_1
        have hl := lv_sub hl (l' := _) [1, 2, 3, 4] rfl
        have e_ : xf_fill xw umayor uborn ustays Wd R thouses talways tnever tring target self = s_1 := by rw [xf_fill, zlet_eq hs_1]
        exact zr_mv hx hb hr hlocks hP hD hS dX0_fill_193 rfl (by rw [e_]) trivial
      · have hlt_1 : k_1 < R := Nat.lt_of_not_le c_1
        refine lv_iconst (v := 0) hx hb dX0_fill_25 (by decide) ?_
        refine lv_istore (lv' := [(5, .int 0), (4, .int (nI k_1)), (3, .int (nI (zpw Wd))), (0, .ref xA), (1, .int target), (2, .int (zb self))]) hx hb dX0_fill_26 hl (by decide) rfl (fun ls hl => ?_)
        have hlp_2 : ∀ (n k_2 : Nat) (s_2 : (Nat → Nat → Int64)), k_2 ≤ zpw Wd → zpw Wd < k_2 + n → zf (xf_fill_B28 umayor uborn ustays Wd thouses talways tnever tring target self k_1) s_1 k_2 = s_2 → ∀ (H : Heap) (locs : List Loc), va_P G.1 zcl ((xS_ G xa_ways xwA s_2) ++ (xA_ G xA xa_trays xa_tape x_taped x_faultKind x_faultAt xa_bad xa_refused x_status x_above x_under nA xa_marks x_markMany xa_pictures x_lead x_round xa_ways x_bestSet x_bestMany x_left xa_aside xa_last x_hasLived uA n_year) ++ (hW G uA tA uA_bo uA_st uA_se ulit umayor unight uoil uborn ustays useen) ++ (tW G tA tA_be tA_le tA_mo tA_rn tA_cn tA_bo tA_st (nI Wd) (nI R) thouses talways tnever (nI nr) (nI nc) tring tbeside tleast tmost trnames)) H → va_D A ((xS_ G xa_ways xwA s_2) ++ (xA_ G xA xa_trays xa_tape x_taped x_faultKind x_faultAt xa_bad xa_refused x_status x_above x_under nA xa_marks x_markMany xa_pictures x_lead x_round xa_ways x_bestSet x_bestMany x_left xa_aside xa_last x_hasLived uA n_year) ++ (hW G uA tA uA_bo uA_st uA_se ulit umayor unight uoil uborn ustays useen) ++ (tW G tA tA_be tA_le tA_mo tA_rn tA_cn tA_bo tA_st (nI Wd) (nI R) thouses talways tnever (nI nr) (nI nc) tring tbeside tleast tmost trnames)) → va_S A s.heap H locs → ∀ ls : Array Slot, lv_has ls 10 [(5, .int (nI k_2)), (4, .int (nI k_1)), (3, .int (nI (zpw Wd))), (0, .ref xA), (1, .int target), (2, .int (zb self))] → W p l e (zR 4 0 0) s m ([.ref xA, .int target, .int (zb self)] : List Value).toArray below meth c H locs 0 0 (MQ below (zQm G (True) none ((xS_ G xa_ways xwA (xf_fill xw umayor uborn ustays Wd R thouses talways tnever tring target self)) ++ (xA_ G xA xa_trays xa_tape x_taped x_faultKind x_faultAt xa_bad xa_refused x_status x_above x_under nA xa_marks x_markMany xa_pictures x_lead x_round xa_ways x_bestSet x_bestMany x_left xa_aside xa_last x_hasLived uA n_year) ++ (hW G uA tA uA_bo uA_st uA_se ulit umayor unight uoil uborn ustays useen) ++ (tW G tA tA_be tA_le tA_mo tA_rn tA_cn tA_bo tA_st (nI Wd) (nI R) thouses talways tnever (nI nr) (nI nc) tring tbeside tleast tmost trnames)) A) ([.ref xA, .int target, .int (zb self)] : List Value).toArray s 0 0 A) (F0 m 28 ls []) := by
          intro n
          induction n with
          | zero => intro k_2 s_2 h1 h2; exact absurd h2 (by omega)
          | succ n ih_2 =>
            intro k_2 s_2 hk_2 hn_2 hst_2 H locs hP hD hS ls hl
            refine lv_iload hx hb dX0_fill_28 (lv_at hl 0 rfl) ?_
            refine lv_iload_n hx hb dX0_fill_30 rfl (lv_at hl 2 rfl) ?_
            refine zr_ge k_2 (zpw Wd) (by omega) (by omega) (tgt := 187) hx hb dX0_fill_31 (by decide) (fun c_2 => ?_) (fun c_2 => ?_)
            · have ek_2 : k_2 = zpw Wd := Nat.le_antisymm hk_2 c_2
              have hs_2 : xf_fill_L28 umayor uborn ustays Wd thouses talways tnever tring target self k_1 s_1 = s_2 := by rw [ek_2] at hst_2; exact hst_2
              have hl := lv_sub hl (l' := _) [1, 2, 3, 4, 5] rfl
              refine lv_iinc (v := nI (k_1 + 1)) (lv' := [(4, .int (nI (k_1 + 1))), (3, .int (nI (zpw Wd))), (0, .ref xA), (1, .int target), (2, .int (zb self))]) hx hb dX0_fill_187 hl (k := 0) rfl (nI_add k_1 1) (by decide) rfl (fun ls hl => ?_)
              refine lv_goto (tgt := 13) hx hb dX0_fill_190 (by decide) ?_
              exact ih_1 (k_1 + 1) s_2 hlt_1 (by omega) (zf_s hst_1 (by rw [xf_fill_B13, zlet_eq hs_2])) H locs hP hD hS ls (lv_sub hl [0, 1, 2, 3, 4] rfl)
            · have hlt_2 : k_2 < zpw Wd := Nat.lt_of_not_le c_2
              refine lv_iconst (v := 0) hx hb dX0_fill_34 (by decide) ?_
              refine lv_istore (lv' := [(6, .int 0), (5, .int (nI k_2)), (4, .int (nI k_1)), (3, .int (nI (zpw Wd))), (0, .ref xA), (1, .int target), (2, .int (zb self))]) hx hb dX0_fill_35 hl (by decide) rfl (fun ls hl => ?_)
              have hlp_3 : ∀ (n k_3 : Nat) (s_3 : (Nat → Nat → Int64)), k_3 ≤ zpw Wd → zpw Wd < k_3 + n → zf (xf_fill_B37 umayor uborn ustays Wd thouses talways tnever tring target self k_1 k_2) s_2 k_3 = s_3 → ∀ (H : Heap) (locs : List Loc), va_P G.1 zcl ((xS_ G xa_ways xwA s_3) ++ (xA_ G xA xa_trays xa_tape x_taped x_faultKind x_faultAt xa_bad xa_refused x_status x_above x_under nA xa_marks x_markMany xa_pictures x_lead x_round xa_ways x_bestSet x_bestMany x_left xa_aside xa_last x_hasLived uA n_year) ++ (hW G uA tA uA_bo uA_st uA_se ulit umayor unight uoil uborn ustays useen) ++ (tW G tA tA_be tA_le tA_mo tA_rn tA_cn tA_bo tA_st (nI Wd) (nI R) thouses talways tnever (nI nr) (nI nc) tring tbeside tleast tmost trnames)) H → va_D A ((xS_ G xa_ways xwA s_3) ++ (xA_ G xA xa_trays xa_tape x_taped x_faultKind x_faultAt xa_bad xa_refused x_status x_above x_under nA xa_marks x_markMany xa_pictures x_lead x_round xa_ways x_bestSet x_bestMany x_left xa_aside xa_last x_hasLived uA n_year) ++ (hW G uA tA uA_bo uA_st uA_se ulit umayor unight uoil uborn ustays useen) ++ (tW G tA tA_be tA_le tA_mo tA_rn tA_cn tA_bo tA_st (nI Wd) (nI R) thouses talways tnever (nI nr) (nI nc) tring tbeside tleast tmost trnames)) → va_S A s.heap H locs → ∀ ls : Array Slot, lv_has ls 10 [(6, .int (nI k_3)), (5, .int (nI k_2)), (4, .int (nI k_1)), (3, .int (nI (zpw Wd))), (0, .ref xA), (1, .int target), (2, .int (zb self))] → W p l e (zR 4 0 0) s m ([.ref xA, .int target, .int (zb self)] : List Value).toArray below meth c H locs 0 0 (MQ below (zQm G (True) none ((xS_ G xa_ways xwA (xf_fill xw umayor uborn ustays Wd R thouses talways tnever tring target self)) ++ (xA_ G xA xa_trays xa_tape x_taped x_faultKind x_faultAt xa_bad xa_refused x_status x_above x_under nA xa_marks x_markMany xa_pictures x_lead x_round xa_ways x_bestSet x_bestMany x_left xa_aside xa_last x_hasLived uA n_year) ++ (hW G uA tA uA_bo uA_st uA_se ulit umayor unight uoil uborn ustays useen) ++ (tW G tA tA_be tA_le tA_mo tA_rn tA_cn tA_bo tA_st (nI Wd) (nI R) thouses talways tnever (nI nr) (nI nc) tring tbeside tleast tmost trnames)) A) ([.ref xA, .int target, .int (zb self)] : List Value).toArray s 0 0 A) (F0 m 37 ls []) := by
                intro n
                induction n with
                | zero => intro k_3 s_3 h1 h2; exact absurd h2 (by omega)
                | succ n ih_3 =>
                  intro k_3 s_3 hk_3 hn_3 hst_3 H locs hP hD hS ls hl
                  refine lv_iload hx hb dX0_fill_37 (lv_at hl 0 rfl) ?_
                  refine lv_iload_n hx hb dX0_fill_39 rfl (lv_at hl 3 rfl) ?_
                  refine zr_ge k_3 (zpw Wd) (by omega) (by omega) (tgt := 181) hx hb dX0_fill_40 (by decide) (fun c_3 => ?_) (fun c_3 => ?_)
                  · have ek_3 : k_3 = zpw Wd := Nat.le_antisymm hk_3 c_3
                    have hs_3 : xf_fill_L37 umayor uborn ustays Wd thouses talways tnever tring target self k_1 k_2 s_2 = s_3 := by rw [ek_3] at hst_3; exact hst_3
                    have hl := lv_sub hl (l' := _) [1, 2, 3, 4, 5, 6] rfl
                    refine lv_iinc (v := nI (k_2 + 1)) (lv' := [(5, .int (nI (k_2 + 1))), (4, .int (nI k_1)), (3, .int (nI (zpw Wd))), (0, .ref xA), (1, .int target), (2, .int (zb self))]) hx hb dX0_fill_181 hl (k := 0) rfl (nI_add k_2 1) (by decide) rfl (fun ls hl => ?_)
                    refine lv_goto (tgt := 28) hx hb dX0_fill_184 (by decide) ?_
                    exact ih_2 (k_2 + 1) s_3 hlt_2 (by omega) (zf_s hst_2 (by rw [xf_fill_B28, zlet_eq hs_3])) H locs hP hD hS ls (lv_sub hl [0, 1, 2, 3, 4, 5] rfl)
                  · have hlt_3 : k_3 < zpw Wd := Nat.lt_of_not_le c_3
                    refine lv_lconst (v := 0) hx hb dX0_fill_43 rfl ?_
                    refine lv_lstore (lv' := [(7, .long 0), (6, .int (nI k_3)), (5, .int (nI k_2)), (4, .int (nI k_1)), (3, .int (nI (zpw Wd))), (0, .ref xA), (1, .int target), (2, .int (zb self))]) hx hb dX0_fill_44 hl (by decide) rfl (fun ls hl => ?_)
                    refine lv_aload_n hx hb dX0_fill_46 rfl (lv_at hl 5 rfl) ?_
                    refine lv_iload hx hb dX0_fill_47 (lv_at hl 3 rfl) ?_
                    refine lv_iload hx hb dX0_fill_49 (lv_at hl 1 rfl) ?_
                    refine zr_obV ⟨hx, hb, hml, hown, hts⟩ (mt_xf_isPattern l G xA xa_trays xa_tape x_taped x_faultKind x_faultAt xa_bad xa_refused x_status x_above x_under nA xa_marks x_markMany xa_pictures x_lead x_round xa_ways x_bestSet x_bestMany x_left xa_aside xa_last x_hasLived uA n_year tA uA_bo uA_st uA_se ulit umayor unight uoil uborn ustays useen tA_be tA_le tA_mo tA_rn tA_cn tA_bo tA_st Wd R thouses talways tnever nr nc tring tbeside tleast tmost trnames (nI k_1) (nI k_3) hT) (cwV 2 hts (lw_V q1163 q1165 qs45 q135 q1166) rfl rfl rfl hd_X0_isPattern ⟨(Nat.le_of_ble_eq_true rfl), (Nat.le_of_ble_eq_true rfl)⟩) (zP_sub hP (ws' := ((xA_ G xA xa_trays xa_tape x_taped x_faultKind x_faultAt xa_bad xa_refused x_status x_above x_under nA xa_marks x_markMany xa_pictures x_lead x_round xa_ways x_bestSet x_bestMany x_left xa_aside xa_last x_hasLived uA n_year) ++ (hW G uA tA uA_bo uA_st uA_se ulit umayor unight uoil uborn ustays useen) ++ (tW G tA tA_be tA_le tA_mo tA_rn tA_cn tA_bo tA_st (nI Wd) (nI R) thouses talways tnever (nI nr) (nI nc) tring tbeside tleast tmost trnames))) [7, 8, 9, 10, 11, 12, 13, 14, 15, 16, 17] rfl) hK (zE_o hE hS) 0 0 rfl rfl rfl hl.1 rfl (Nat.le_of_ble_eq_true rfl) dX0_fill_51 ⟨Nat.le_refl _, Nat.le_refl _⟩ ?_
                    refine zr_eqB (xf_isPattern Wd thouses talways tnever (nI k_1) (nI k_3)) (tgt := 157) hx hb dX0_fill_54 (by decide) (fun c_4 => ?_) (fun c_4 => ?_)
                    · refine lv_aload_n hx hb dX0_fill_157 rfl (lv_at hl 5 rfl) ?_
                      refine va_get (D := G.1) (ci := 0) (v := .ref xa_ways) (C := RX0) (T := TX0) (N := 23) hx hb hts in_X0 hown hK.1 hP 7 rfl rfl 16 (Nat.le_of_ble_eq_true rfl) (hts _ q441) (fun _ h => h) rfl dX0_fill_158 ?_
                      refine lv_iload hx hb dX0_fill_161 (lv_at hl 3 rfl) ?_
                      refine zr_aaldL k_1 hx hb hK hP 0 rfl rfl (Nat.le_of_ble_eq_true rfl) rfl (by omega) rfl dX0_fill_163 ?_
                      refine lv_bipush (v := 32) hx hb dX0_fill_164 (by decide) ?_
                      refine lv_iload hx hb dX0_fill_166 (lv_at hl 2 rfl) ?_
                      refine zr_imulN 32 k_2 hx hb dX0_fill_168 ?_
                      refine lv_iload hx hb dX0_fill_169 (lv_at hl 1 rfl) ?_
                      refine zr_iaddN (32 * k_2) k_3 hx hb dX0_fill_171 ?_
                      refine zr_val (v' := .int (nI (32 * k_2 + k_3))) (by rfl) ?_
                      refine lv_lload hx hb dX0_fill_172 (lv_at hl 0 rfl) ?_
                      refine zr_last (32 * k_2 + k_3) (ws' := ((xS_ G xa_ways xwA (zupR s_3 k_1 (vp_updL (s_3 k_1) (32 * k_2 + k_3) 0))) ++ (xA_ G xA xa_trays xa_tape x_taped x_faultKind x_faultAt xa_bad xa_refused x_status x_above x_under nA xa_marks x_markMany xa_pictures x_lead x_round xa_ways x_bestSet x_bestMany x_left xa_aside xa_last x_hasLived uA n_year) ++ (hW G uA tA uA_bo uA_st uA_se ulit umayor unight uoil uborn ustays useen) ++ (tW G tA tA_be tA_le tA_mo tA_rn tA_cn tA_bo tA_st (nI Wd) (nI R) thouses talways tnever (nI nr) (nI nc) tring tbeside tleast tmost trnames))) hx hb hK hP hD hS (1 + k_1) (zget4 (xS_get _ _ _ _ k_1 (by omega))) rfl (Nat.le_of_ble_eq_true rfl) rfl (by omega) ((zset4 (xS_get _ _ _ _ k_1 (by omega))).trans (by rw [xS_set _ _ _ _ k_1 (by omega)])) dX0_fill_174 (fun H locs hP hD hS => ?_)
                      refine lv_iinc (v := nI (k_3 + 1)) (lv' := [(6, .int (nI (k_3 + 1))), (7, .long 0), (5, .int (nI k_2)), (4, .int (nI k_1)), (3, .int (nI (zpw Wd))), (0, .ref xA), (1, .int target), (2, .int (zb self))]) hx hb dX0_fill_175 hl (k := 1) rfl (nI_add k_3 1) (by decide) rfl (fun ls hl => ?_)
                      refine lv_goto (tgt := 37) hx hb dX0_fill_178 (by decide) ?_
                      exact ih_3 (k_3 + 1) (zupR s_3 k_1 (vp_updL (s_3 k_1) (32 * k_2 + k_3) 0)) hlt_3 (by omega) (zf_s hst_3 (by rw [xf_fill_B37, if_neg c_4])) H locs hP hD hS ls (lv_sub hl [0, 2, 3, 4, 5, 6, 7] rfl)
                    · refine lv_iload hx hb dX0_fill_57 (lv_at hl 3 rfl) ?_
                      refine zr_ifneN k_1 (by omega) (tgt := 77) hx hb dX0_fill_59 (by decide) (fun c_5 => ?_) (fun c_5 => ?_)
                      · refine lv_iconst (v := 0) hx hb dX0_fill_77 (by decide) ?_
                        refine lv_istore (lv' := [(9, .int 0), (7, .long 0), (6, .int (nI k_3)), (5, .int (nI k_2)), (4, .int (nI k_1)), (3, .int (nI (zpw Wd))), (0, .ref xA), (1, .int target), (2, .int (zb self))]) hx hb dX0_fill_78 hl (by decide) rfl (fun ls hl => ?_)
                        have hlp_6 : ∀ (n k_6 : Nat) (s_6 : Int64), k_6 ≤ zpw Wd → zpw Wd < k_6 + n → zf (xf_fill_B80 umayor uborn ustays Wd thouses talways tnever tring target self k_1 k_2 s_3 k_3) 0 k_6 = s_6 → ∀ (H : Heap) (locs : List Loc), va_P G.1 zcl ((xS_ G xa_ways xwA s_3) ++ (xA_ G xA xa_trays xa_tape x_taped x_faultKind x_faultAt xa_bad xa_refused x_status x_above x_under nA xa_marks x_markMany xa_pictures x_lead x_round xa_ways x_bestSet x_bestMany x_left xa_aside xa_last x_hasLived uA n_year) ++ (hW G uA tA uA_bo uA_st uA_se ulit umayor unight uoil uborn ustays useen) ++ (tW G tA tA_be tA_le tA_mo tA_rn tA_cn tA_bo tA_st (nI Wd) (nI R) thouses talways tnever (nI nr) (nI nc) tring tbeside tleast tmost trnames)) H → va_D A ((xS_ G xa_ways xwA s_3) ++ (xA_ G xA xa_trays xa_tape x_taped x_faultKind x_faultAt xa_bad xa_refused x_status x_above x_under nA xa_marks x_markMany xa_pictures x_lead x_round xa_ways x_bestSet x_bestMany x_left xa_aside xa_last x_hasLived uA n_year) ++ (hW G uA tA uA_bo uA_st uA_se ulit umayor unight uoil uborn ustays useen) ++ (tW G tA tA_be tA_le tA_mo tA_rn tA_cn tA_bo tA_st (nI Wd) (nI R) thouses talways tnever (nI nr) (nI nc) tring tbeside tleast tmost trnames)) → va_S A s.heap H locs → ∀ ls : Array Slot, lv_has ls 10 [(9, .int (nI k_6)), (7, .long s_6), (6, .int (nI k_3)), (5, .int (nI k_2)), (4, .int (nI k_1)), (3, .int (nI (zpw Wd))), (0, .ref xA), (1, .int target), (2, .int (zb self))] → W p l e (zR 4 0 0) s m ([.ref xA, .int target, .int (zb self)] : List Value).toArray below meth c H locs 0 0 (MQ below (zQm G (True) none ((xS_ G xa_ways xwA (xf_fill xw umayor uborn ustays Wd R thouses talways tnever tring target self)) ++ (xA_ G xA xa_trays xa_tape x_taped x_faultKind x_faultAt xa_bad xa_refused x_status x_above x_under nA xa_marks x_markMany xa_pictures x_lead x_round xa_ways x_bestSet x_bestMany x_left xa_aside xa_last x_hasLived uA n_year) ++ (hW G uA tA uA_bo uA_st uA_se ulit umayor unight uoil uborn ustays useen) ++ (tW G tA tA_be tA_le tA_mo tA_rn tA_cn tA_bo tA_st (nI Wd) (nI R) thouses talways tnever (nI nr) (nI nc) tring tbeside tleast tmost trnames)) A) ([.ref xA, .int target, .int (zb self)] : List Value).toArray s 0 0 A) (F0 m 80 ls []) := by
                          intro n
                          induction n with
                          | zero => intro k_6 s_6 h1 h2; exact absurd h2 (by omega)
                          | succ n ih_6 =>
                            intro k_6 s_6 hk_6 hn_6 hst_6 H locs hP hD hS ls hl
                            refine lv_iload hx hb dX0_fill_80 (lv_at hl 0 rfl) ?_
                            refine lv_iload_n hx hb dX0_fill_82 rfl (lv_at hl 5 rfl) ?_
                            refine zr_ge k_6 (zpw Wd) (by omega) (by omega) (tgt := 157) hx hb dX0_fill_83 (by decide) (fun c_6 => ?_) (fun c_6 => ?_)
                            · have ek_6 : k_6 = zpw Wd := Nat.le_antisymm hk_6 c_6
                              have hs_6 : xf_fill_L80 umayor uborn ustays Wd thouses talways tnever tring target self k_1 k_2 s_3 k_3 0 = s_6 := by rw [ek_6] at hst_6; exact hst_6
                              have hl := lv_sub hl (l' := _) [1, 2, 3, 4, 5, 6, 7, 8] rfl
                              refine lv_aload_n hx hb dX0_fill_157 rfl (lv_at hl 5 rfl) ?_
                              refine va_get (D := G.1) (ci := 0) (v := .ref xa_ways) (C := RX0) (T := TX0) (N := 23) hx hb hts in_X0 hown hK.1 hP 7 rfl rfl 16 (Nat.le_of_ble_eq_true rfl) (hts _ q441) (fun _ h => h) rfl dX0_fill_158 ?_
                              refine lv_iload hx hb dX0_fill_161 (lv_at hl 3 rfl) ?_
                              refine zr_aaldL k_1 hx hb hK hP 0 rfl rfl (Nat.le_of_ble_eq_true rfl) rfl (by omega) rfl dX0_fill_163 ?_
                              refine lv_bipush (v := 32) hx hb dX0_fill_164 (by decide) ?_
                              refine lv_iload hx hb dX0_fill_166 (lv_at hl 2 rfl) ?_
                              refine zr_imulN 32 k_2 hx hb dX0_fill_168 ?_
                              refine lv_iload hx hb dX0_fill_169 (lv_at hl 1 rfl) ?_
                              refine zr_iaddN (32 * k_2) k_3 hx hb dX0_fill_171 ?_
                              refine zr_val (v' := .int (nI (32 * k_2 + k_3))) (by rfl) ?_
                              refine lv_lload hx hb dX0_fill_172 (lv_at hl 0 rfl) ?_
                              refine zr_last (32 * k_2 + k_3) (ws' := ((xS_ G xa_ways xwA (zupR s_3 k_1 (vp_updL (s_3 k_1) (32 * k_2 + k_3) s_6))) ++ (xA_ G xA xa_trays xa_tape x_taped x_faultKind x_faultAt xa_bad xa_refused x_status x_above x_under nA xa_marks x_markMany xa_pictures x_lead x_round xa_ways x_bestSet x_bestMany x_left xa_aside xa_last x_hasLived uA n_year) ++ (hW G uA tA uA_bo uA_st uA_se ulit umayor unight uoil uborn ustays useen) ++ (tW G tA tA_be tA_le tA_mo tA_rn tA_cn tA_bo tA_st (nI Wd) (nI R) thouses talways tnever (nI nr) (nI nc) tring tbeside tleast tmost trnames))) hx hb hK hP hD hS (1 + k_1) (zget4 (xS_get _ _ _ _ k_1 (by omega))) rfl (Nat.le_of_ble_eq_true rfl) rfl (by omega) ((zset4 (xS_get _ _ _ _ k_1 (by omega))).trans (by rw [xS_set _ _ _ _ k_1 (by omega)])) dX0_fill_174 (fun H locs hP hD hS => ?_)
                              refine lv_iinc (v := nI (k_3 + 1)) (lv' := [(6, .int (nI (k_3 + 1))), (7, .long s_6), (5, .int (nI k_2)), (4, .int (nI k_1)), (3, .int (nI (zpw Wd))), (0, .ref xA), (1, .int target), (2, .int (zb self))]) hx hb dX0_fill_175 hl (k := 1) rfl (nI_add k_3 1) (by decide) rfl (fun ls hl => ?_)
                              refine lv_goto (tgt := 37) hx hb dX0_fill_178 (by decide) ?_
                              exact ih_3 (k_3 + 1) (zupR s_3 k_1 (vp_updL (s_3 k_1) (32 * k_2 + k_3) s_6)) hlt_3 (by omega) (zf_s hst_3 (by rw [xf_fill_B37, if_pos c_4, if_neg c_5, zlet_eq hs_6])) H locs hP hD hS ls (lv_sub hl [0, 2, 3, 4, 5, 6, 7] rfl)
                            · have hlt_6 : k_6 < zpw Wd := Nat.lt_of_not_le c_6
                              refine lv_aload_n hx hb dX0_fill_86 rfl (lv_at hl 6 rfl) ?_
                              refine va_get (D := G.1) (ci := 0) (v := .ref xa_ways) (C := RX0) (T := TX0) (N := 23) hx hb hts in_X0 hown hK.1 hP 7 rfl rfl 16 (Nat.le_of_ble_eq_true rfl) (hts _ q441) (fun _ h => h) rfl dX0_fill_87 ?_
                              refine lv_iload hx hb dX0_fill_90 (lv_at hl 4 rfl) ?_
                              refine lv_iconst (v := 1) hx hb dX0_fill_92 (by decide) ?_
                              refine zr_isubN k_1 1 (by omega) hx hb dX0_fill_93 ?_
                              refine zr_aaldL (k_1 - 1) hx hb hK hP 0 rfl rfl (Nat.le_of_ble_eq_true rfl) rfl (by omega) rfl dX0_fill_94 ?_
                              refine lv_bipush (v := 32) hx hb dX0_fill_95 (by decide) ?_
                              refine lv_iload hx hb dX0_fill_97 (lv_at hl 0 rfl) ?_
                              refine zr_imulN 32 k_6 hx hb dX0_fill_99 ?_
                              refine lv_iload hx hb dX0_fill_100 (lv_at hl 3 rfl) ?_
                              refine zr_iaddN (32 * k_6) k_2 hx hb dX0_fill_102 ?_
                              refine zr_val (v' := .int (nI (32 * k_6 + k_2))) (by rfl) ?_
                              refine zr_lald (32 * k_6 + k_2) (v := s_3 (k_1 - 1) (32 * k_6 + k_2)) hx hb hK hP (1 + (k_1 - 1)) (zget4 (xS_get _ _ _ _ (k_1 - 1) (by omega))) rfl (Nat.le_of_ble_eq_true rfl) rfl (by omega) rfl dX0_fill_103 ?_
                              refine lv_lconst (v := 0) hx hb dX0_fill_104 rfl ?_
                              refine W.lcmp hx hb dX0_fill_105 ?_
                              refine zr_lle (tgt := 151) hx hb dX0_fill_106 (by decide) (fun c_7 => ?_) (fun c_7 => ?_)
                              · refine lv_iinc (v := nI (k_6 + 1)) (lv' := [(9, .int (nI (k_6 + 1))), (7, .long s_6), (6, .int (nI k_3)), (5, .int (nI k_2)), (4, .int (nI k_1)), (3, .int (nI (zpw Wd))), (0, .ref xA), (1, .int target), (2, .int (zb self))]) hx hb dX0_fill_151 hl (k := 0) rfl (nI_add k_6 1) (by decide) rfl (fun ls hl => ?_)
                                refine lv_goto (tgt := 80) hx hb dX0_fill_154 (by decide) ?_
                                exact ih_6 (k_6 + 1) s_6 hlt_6 (by omega) (zf_s hst_6 (by rw [xf_fill_B80, if_neg c_7])) H locs hP hD hS ls (lv_sub hl [0, 1, 2, 3, 4, 5, 6, 7, 8] rfl)
                              · refine lv_aload_n hx hb dX0_fill_109 rfl (lv_at hl 6 rfl) ?_
                                refine lv_iload hx hb dX0_fill_110 (lv_at hl 4 rfl) ?_
                                refine lv_iconst (v := 1) hx hb dX0_fill_112 (by decide) ?_
                                refine lv_isub hx hb dX0_fill_113 ?_
                                refine lv_iload hx hb dX0_fill_114 (lv_at hl 0 rfl) ?_
                                refine lv_iload hx hb dX0_fill_116 (lv_at hl 3 rfl) ?_
                                refine lv_iload hx hb dX0_fill_118 (lv_at hl 2 rfl) ?_
                                refine lv_iload_n hx hb dX0_fill_120 rfl (lv_at hl 7 rfl) ?_
                                refine lv_iload_n hx hb dX0_fill_121 rfl (lv_at hl 8 rfl) ?_
                                refine zr_obV ⟨hx, hb, hml, hown, hts⟩ (mt_xf_fits6 l G xA xa_trays xa_tape x_taped x_faultKind x_faultAt xa_bad xa_refused x_status x_above x_under nA xa_marks x_markMany xa_pictures x_lead x_round xa_ways x_bestSet x_bestMany x_left xa_aside xa_last x_hasLived uA n_year tA uA_bo uA_st uA_se ulit umayor unight uoil uborn ustays useen tA_be tA_le tA_mo tA_rn tA_cn tA_bo tA_st Wd R thouses talways tnever nr nc tring tbeside tleast tmost trnames ((nI k_1) - 1) (nI k_6) (nI k_2) (nI k_3) target self hT hmy) (cwV 6 hts (lw_V q1167 q1169 qs46 q135 q1170) rfl rfl rfl hd_X0_fits ⟨(Nat.le_of_ble_eq_true rfl), (Nat.le_of_ble_eq_true rfl)⟩) (zP_sub hP (ws' := ((xA_ G xA xa_trays xa_tape x_taped x_faultKind x_faultAt xa_bad xa_refused x_status x_above x_under nA xa_marks x_markMany xa_pictures x_lead x_round xa_ways x_bestSet x_bestMany x_left xa_aside xa_last x_hasLived uA n_year) ++ (hW G uA tA uA_bo uA_st uA_se ulit umayor unight uoil uborn ustays useen) ++ (tW G tA tA_be tA_le tA_mo tA_rn tA_cn tA_bo tA_st (nI Wd) (nI R) thouses talways tnever (nI nr) (nI nc) tring tbeside tleast tmost trnames))) [7, 8, 9, 10, 11, 12, 13, 14, 15, 16, 17] rfl) hK (zE_o hE hS) 0 0 rfl rfl rfl hl.1 rfl (Nat.le_of_ble_eq_true rfl) dX0_fill_122 ⟨Nat.le_refl _, Nat.le_refl _⟩ ?_
                                refine zr_eqB (xf_fits6 umayor uborn ustays Wd thouses talways tnever tring ((nI k_1) - 1) (nI k_6) (nI k_2) (nI k_3) target self) (tgt := 151) hx hb dX0_fill_125 (by decide) (fun c_8 => ?_) (fun c_8 => ?_)
                                · refine lv_iinc (v := nI (k_6 + 1)) (lv' := [(9, .int (nI (k_6 + 1))), (7, .long s_6), (6, .int (nI k_3)), (5, .int (nI k_2)), (4, .int (nI k_1)), (3, .int (nI (zpw Wd))), (0, .ref xA), (1, .int target), (2, .int (zb self))]) hx hb dX0_fill_151 hl (k := 0) rfl (nI_add k_6 1) (by decide) rfl (fun ls hl => ?_)
                                  refine lv_goto (tgt := 80) hx hb dX0_fill_154 (by decide) ?_
                                  exact ih_6 (k_6 + 1) s_6 hlt_6 (by omega) (zf_s hst_6 (by rw [xf_fill_B80, if_pos c_7, if_neg c_8])) H locs hP hD hS ls (lv_sub hl [0, 1, 2, 3, 4, 5, 6, 7, 8] rfl)
                                · refine lv_lload hx hb dX0_fill_128 (lv_at hl 1 rfl) ?_
                                  refine lv_aload_n hx hb dX0_fill_130 rfl (lv_at hl 6 rfl) ?_
                                  refine va_get (D := G.1) (ci := 0) (v := .ref xa_ways) (C := RX0) (T := TX0) (N := 23) hx hb hts in_X0 hown hK.1 hP 7 rfl rfl 16 (Nat.le_of_ble_eq_true rfl) (hts _ q441) (fun _ h => h) rfl dX0_fill_131 ?_
                                  refine lv_iload hx hb dX0_fill_134 (lv_at hl 4 rfl) ?_
                                  refine lv_iconst (v := 1) hx hb dX0_fill_136 (by decide) ?_
                                  refine zr_isubN k_1 1 (by omega) hx hb dX0_fill_137 ?_
                                  refine zr_aaldL (k_1 - 1) hx hb hK hP 0 rfl rfl (Nat.le_of_ble_eq_true rfl) rfl (by omega) rfl dX0_fill_138 ?_
                                  refine lv_bipush (v := 32) hx hb dX0_fill_139 (by decide) ?_
                                  refine lv_iload hx hb dX0_fill_141 (lv_at hl 0 rfl) ?_
                                  refine zr_imulN 32 k_6 hx hb dX0_fill_143 ?_
                                  refine lv_iload hx hb dX0_fill_144 (lv_at hl 3 rfl) ?_
                                  refine zr_iaddN (32 * k_6) k_2 hx hb dX0_fill_146 ?_
                                  refine zr_val (v' := .int (nI (32 * k_6 + k_2))) (by rfl) ?_
                                  refine zr_lald (32 * k_6 + k_2) (v := s_3 (k_1 - 1) (32 * k_6 + k_2)) hx hb hK hP (1 + (k_1 - 1)) (zget4 (xS_get _ _ _ _ (k_1 - 1) (by omega))) rfl (Nat.le_of_ble_eq_true rfl) rfl (by omega) rfl dX0_fill_147 ?_
                                  refine lv_ladd hx hb dX0_fill_148 ?_
                                  refine lv_lstore (lv' := [(7, .long (s_6 + (s_3 (k_1 - 1) (32 * k_6 + k_2)))), (9, .int (nI k_6)), (6, .int (nI k_3)), (5, .int (nI k_2)), (4, .int (nI k_1)), (3, .int (nI (zpw Wd))), (0, .ref xA), (1, .int target), (2, .int (zb self))]) hx hb dX0_fill_149 hl (by decide) rfl (fun ls hl => ?_)
                                  refine lv_iinc (v := nI (k_6 + 1)) (lv' := [(9, .int (nI (k_6 + 1))), (7, .long (s_6 + (s_3 (k_1 - 1) (32 * k_6 + k_2)))), (6, .int (nI k_3)), (5, .int (nI k_2)), (4, .int (nI k_1)), (3, .int (nI (zpw Wd))), (0, .ref xA), (1, .int target), (2, .int (zb self))]) hx hb dX0_fill_151 hl (k := 1) rfl (nI_add k_6 1) (by decide) rfl (fun ls hl => ?_)
                                  refine lv_goto (tgt := 80) hx hb dX0_fill_154 (by decide) ?_
                                  exact ih_6 (k_6 + 1) (s_6 + (s_3 (k_1 - 1) (32 * k_6 + k_2))) hlt_6 (by omega) (zf_s hst_6 (by rw [xf_fill_B80, if_pos c_7, if_pos c_8])) H locs hP hD hS ls (lv_sub hl [0, 1, 2, 3, 4, 5, 6, 7, 8] rfl)
                        exact hlp_6 ((zpw Wd) + 1) 0 0 (Nat.zero_le _) (by omega) rfl H locs hP hD hS ls (lv_sub hl [0, 1, 2, 3, 4, 5, 6, 7, 8] rfl)
                      · refine lv_iload hx hb dX0_fill_62 (lv_at hl 2 rfl) ?_
                        refine zr_ifneN k_2 (by omega) (tgt := 71) hx hb dX0_fill_64 (by decide) (fun c_9 => ?_) (fun c_9 => ?_)
                        · refine lv_lconst (v := 0) hx hb dX0_fill_71 rfl ?_
                          refine lv_lstore (lv' := [(7, .long 0), (6, .int (nI k_3)), (5, .int (nI k_2)), (4, .int (nI k_1)), (3, .int (nI (zpw Wd))), (0, .ref xA), (1, .int target), (2, .int (zb self))]) hx hb dX0_fill_72 hl (by decide) rfl (fun ls hl => ?_)
                          refine lv_goto (tgt := 157) hx hb dX0_fill_74 (by decide) ?_
                          refine lv_aload_n hx hb dX0_fill_157 rfl (lv_at hl 5 rfl) ?_
                          refine va_get (D := G.1) (ci := 0) (v := .ref xa_ways) (C := RX0) (T := TX0) (N := 23) hx hb hts in_X0 hown hK.1 hP 7 rfl rfl 16 (Nat.le_of_ble_eq_true rfl) (hts _ q441) (fun _ h => h) rfl dX0_fill_158 ?_
                          refine lv_iload hx hb dX0_fill_161 (lv_at hl 3 rfl) ?_
                          refine zr_aaldL k_1 hx hb hK hP 0 rfl rfl (Nat.le_of_ble_eq_true rfl) rfl (by omega) rfl dX0_fill_163 ?_
                          refine lv_bipush (v := 32) hx hb dX0_fill_164 (by decide) ?_
                          refine lv_iload hx hb dX0_fill_166 (lv_at hl 2 rfl) ?_
                          refine zr_imulN 32 k_2 hx hb dX0_fill_168 ?_
                          refine lv_iload hx hb dX0_fill_169 (lv_at hl 1 rfl) ?_
                          refine zr_iaddN (32 * k_2) k_3 hx hb dX0_fill_171 ?_
                          refine zr_val (v' := .int (nI (32 * k_2 + k_3))) (by rfl) ?_
                          refine lv_lload hx hb dX0_fill_172 (lv_at hl 0 rfl) ?_
                          refine zr_last (32 * k_2 + k_3) (ws' := ((xS_ G xa_ways xwA (zupR s_3 k_1 (vp_updL (s_3 k_1) (32 * k_2 + k_3) 0))) ++ (xA_ G xA xa_trays xa_tape x_taped x_faultKind x_faultAt xa_bad xa_refused x_status x_above x_under nA xa_marks x_markMany xa_pictures x_lead x_round xa_ways x_bestSet x_bestMany x_left xa_aside xa_last x_hasLived uA n_year) ++ (hW G uA tA uA_bo uA_st uA_se ulit umayor unight uoil uborn ustays useen) ++ (tW G tA tA_be tA_le tA_mo tA_rn tA_cn tA_bo tA_st (nI Wd) (nI R) thouses talways tnever (nI nr) (nI nc) tring tbeside tleast tmost trnames))) hx hb hK hP hD hS (1 + k_1) (zget4 (xS_get _ _ _ _ k_1 (by omega))) rfl (Nat.le_of_ble_eq_true rfl) rfl (by omega) ((zset4 (xS_get _ _ _ _ k_1 (by omega))).trans (by rw [xS_set _ _ _ _ k_1 (by omega)])) dX0_fill_174 (fun H locs hP hD hS => ?_)
                          refine lv_iinc (v := nI (k_3 + 1)) (lv' := [(6, .int (nI (k_3 + 1))), (7, .long 0), (5, .int (nI k_2)), (4, .int (nI k_1)), (3, .int (nI (zpw Wd))), (0, .ref xA), (1, .int target), (2, .int (zb self))]) hx hb dX0_fill_175 hl (k := 1) rfl (nI_add k_3 1) (by decide) rfl (fun ls hl => ?_)
                          refine lv_goto (tgt := 37) hx hb dX0_fill_178 (by decide) ?_
                          exact ih_3 (k_3 + 1) (zupR s_3 k_1 (vp_updL (s_3 k_1) (32 * k_2 + k_3) 0)) hlt_3 (by omega) (zf_s hst_3 (by rw [xf_fill_B37, if_pos c_4, if_pos c_5, if_neg c_9])) H locs hP hD hS ls (lv_sub hl [0, 2, 3, 4, 5, 6, 7] rfl)
                        · refine lv_lconst (v := 1) hx hb dX0_fill_67 rfl ?_
                          refine lv_goto (tgt := 72) hx hb dX0_fill_68 (by decide) ?_
                          refine lv_lstore (lv' := [(7, .long 1), (6, .int (nI k_3)), (5, .int (nI k_2)), (4, .int (nI k_1)), (3, .int (nI (zpw Wd))), (0, .ref xA), (1, .int target), (2, .int (zb self))]) hx hb dX0_fill_72 hl (by decide) rfl (fun ls hl => ?_)
                          refine lv_goto (tgt := 157) hx hb dX0_fill_74 (by decide) ?_
                          refine lv_aload_n hx hb dX0_fill_157 rfl (lv_at hl 5 rfl) ?_
                          refine va_get (D := G.1) (ci := 0) (v := .ref xa_ways) (C := RX0) (T := TX0) (N := 23) hx hb hts in_X0 hown hK.1 hP 7 rfl rfl 16 (Nat.le_of_ble_eq_true rfl) (hts _ q441) (fun _ h => h) rfl dX0_fill_158 ?_
                          refine lv_iload hx hb dX0_fill_161 (lv_at hl 3 rfl) ?_
                          refine zr_aaldL k_1 hx hb hK hP 0 rfl rfl (Nat.le_of_ble_eq_true rfl) rfl (by omega) rfl dX0_fill_163 ?_
                          refine lv_bipush (v := 32) hx hb dX0_fill_164 (by decide) ?_
                          refine lv_iload hx hb dX0_fill_166 (lv_at hl 2 rfl) ?_
                          refine zr_imulN 32 k_2 hx hb dX0_fill_168 ?_
                          refine lv_iload hx hb dX0_fill_169 (lv_at hl 1 rfl) ?_
                          refine zr_iaddN (32 * k_2) k_3 hx hb dX0_fill_171 ?_
                          refine zr_val (v' := .int (nI (32 * k_2 + k_3))) (by rfl) ?_
                          refine lv_lload hx hb dX0_fill_172 (lv_at hl 0 rfl) ?_
                          refine zr_last (32 * k_2 + k_3) (ws' := ((xS_ G xa_ways xwA (zupR s_3 k_1 (vp_updL (s_3 k_1) (32 * k_2 + k_3) 1))) ++ (xA_ G xA xa_trays xa_tape x_taped x_faultKind x_faultAt xa_bad xa_refused x_status x_above x_under nA xa_marks x_markMany xa_pictures x_lead x_round xa_ways x_bestSet x_bestMany x_left xa_aside xa_last x_hasLived uA n_year) ++ (hW G uA tA uA_bo uA_st uA_se ulit umayor unight uoil uborn ustays useen) ++ (tW G tA tA_be tA_le tA_mo tA_rn tA_cn tA_bo tA_st (nI Wd) (nI R) thouses talways tnever (nI nr) (nI nc) tring tbeside tleast tmost trnames))) hx hb hK hP hD hS (1 + k_1) (zget4 (xS_get _ _ _ _ k_1 (by omega))) rfl (Nat.le_of_ble_eq_true rfl) rfl (by omega) ((zset4 (xS_get _ _ _ _ k_1 (by omega))).trans (by rw [xS_set _ _ _ _ k_1 (by omega)])) dX0_fill_174 (fun H locs hP hD hS => ?_)
                          refine lv_iinc (v := nI (k_3 + 1)) (lv' := [(6, .int (nI (k_3 + 1))), (7, .long 1), (5, .int (nI k_2)), (4, .int (nI k_1)), (3, .int (nI (zpw Wd))), (0, .ref xA), (1, .int target), (2, .int (zb self))]) hx hb dX0_fill_175 hl (k := 1) rfl (nI_add k_3 1) (by decide) rfl (fun ls hl => ?_)
                          refine lv_goto (tgt := 37) hx hb dX0_fill_178 (by decide) ?_
                          exact ih_3 (k_3 + 1) (zupR s_3 k_1 (vp_updL (s_3 k_1) (32 * k_2 + k_3) 1)) hlt_3 (by omega) (zf_s hst_3 (by rw [xf_fill_B37, if_pos c_4, if_pos c_5, if_pos c_9])) H locs hP hD hS ls (lv_sub hl [0, 2, 3, 4, 5, 6, 7] rfl)
              exact hlp_3 ((zpw Wd) + 1) 0 s_2 (Nat.zero_le _) (by omega) rfl H locs hP hD hS ls (lv_sub hl [0, 1, 2, 3, 4, 5, 6] rfl)
        exact hlp_2 ((zpw Wd) + 1) 0 s_1 (Nat.zero_le _) (by omega) rfl H locs hP hD hS ls (lv_sub hl [0, 1, 2, 3, 4, 5] rfl)
  exact hlp_1 (R + 1) 0 xw (Nat.zero_le _) (by omega) rfl H locs hP hD hS ls (lv_sub hl [0, 1, 2, 3, 4] rfl)
def xf_sum_B42 (umayor : Int32) (uborn : Nat → Int32) (ustays : Nat → Int32) (Wd : Nat) (R : Nat) (thouses : Int32) (talways : Int32) (tnever : Int32) (tring : Bool) (target : Int32) (self : Bool) (t_1 : (Nat → Nat → Int64)) (k_2 : Nat) (k_3 : Nat) (s_3 : Int64) : Int64 :=
  (if 0 < (t_1 (R - 1) (32 * k_2 + k_3)) then
    (if (xf_fits6 umayor uborn ustays Wd thouses talways tnever tring (nI (R - 1)) (nI k_2) (nI k_3) 0 target self) = true then
      s_3 + (t_1 (R - 1) (32 * k_2 + k_3))
    else
      s_3)
  else
    s_3)
def xf_sum_L42 (umayor : Int32) (uborn : Nat → Int32) (ustays : Nat → Int32) (Wd : Nat) (R : Nat) (thouses : Int32) (talways : Int32) (tnever : Int32) (tring : Bool) (target : Int32) (self : Bool) (t_1 : (Nat → Nat → Int64)) (k_2 : Nat) (s_3 : Int64) : Int64 := zf (xf_sum_B42 umayor uborn ustays Wd R thouses talways tnever tring target self t_1 k_2) s_3 (zpw Wd)
def xf_sum_B33 (umayor : Int32) (uborn : Nat → Int32) (ustays : Nat → Int32) (Wd : Nat) (R : Nat) (thouses : Int32) (talways : Int32) (tnever : Int32) (tring : Bool) (target : Int32) (self : Bool) (t_1 : (Nat → Nat → Int64)) (k_2 : Nat) (s_2 : Int64) : Int64 :=
  zlet (xf_sum_L42 umayor uborn ustays Wd R thouses talways tnever tring target self t_1 k_2 s_2) (fun s_3 =>
  s_3)
def xf_sum_L33 (umayor : Int32) (uborn : Nat → Int32) (ustays : Nat → Int32) (Wd : Nat) (R : Nat) (thouses : Int32) (talways : Int32) (tnever : Int32) (tring : Bool) (target : Int32) (self : Bool) (t_1 : (Nat → Nat → Int64)) (s_2 : Int64) : Int64 := zf (xf_sum_B33 umayor uborn ustays Wd R thouses talways tnever tring target self t_1) s_2 (zpw Wd)
def xf_sum (xw : Nat → Nat → Int64) (umayor : Int32) (uborn : Nat → Int32) (ustays : Nat → Int32) (Wd : Nat) (R : Nat) (thouses : Int32) (talways : Int32) (tnever : Int32) (tring : Bool) (target : Int32) (self : Bool) : Int64 × (Nat → Nat → Int64) :=
  zlet (xf_fill xw umayor uborn ustays Wd R thouses talways tnever tring target self) (fun t_1 =>
  zlet (xf_sum_L33 umayor uborn ustays Wd R thouses talways tnever tring target self t_1 0) (fun s_2 =>
  (s_2, t_1)))
theorem hd_X0_sum : yX0_sum.cls = RX0 ∧ yX0_sum.cls ≠ "java/lang/invoke/MethodHandle" ∧ yX0_sum.cls ≠ "java/lang/invoke/VarHandle" ∧ (parseMethodDescriptor yX0_sum.desc).map (fun d => d.parameters.length) = some 2 := by decide +kernel
set_option maxHeartbeats 4000000 in
set_option maxRecDepth 100000 in
theorem mt_xf_sum (l : Launch) (G : zG) (xa_ways : Nat) (xwA : Nat → Nat) (xw : Nat → Nat → Int64) (xA : Nat) (xa_trays : Nat) (xa_tape : Nat) (x_taped : Int32) (x_faultKind : Int32) (x_faultAt : Int32) (xa_bad : Nat) (xa_refused : Nat) (x_status : Int32) (x_above : Int64) (x_under : Int64) (nA : Nat) (xa_marks : Nat) (x_markMany : Int32) (xa_pictures : Nat) (x_lead : Int32) (x_round : Int32) (x_bestSet : Int32) (x_bestMany : Int32) (x_left : Int32) (xa_aside : Nat) (xa_last : Nat) (x_hasLived : Bool) (uA : Nat) (n_year : Option Nat) (tA : Nat) (uA_bo : Nat) (uA_st : Nat) (uA_se : Nat) (ulit : Int32) (umayor : Int32) (unight : Int32) (uoil : Int32) (uborn : Nat → Int32) (ustays : Nat → Int32) (useen : Nat → Int32) (tA_be : Nat) (tA_le : Nat) (tA_mo : Nat) (tA_rn : Nat) (tA_cn : Nat) (tA_bo : Nat) (tA_st : Nat) (Wd : Nat) (R : Nat) (thouses : Int32) (talways : Int32) (tnever : Int32) (nr : Nat) (nc : Nat) (tring : Bool) (tbeside : Nat → Int32) (tleast : Nat → Int32) (tmost : Nat → Int32) (trnames : Nat → Int64) (target : Int32) (self : Bool) (hT : tOK Wd R nr nc) (hmy : umayor < 0 ∨ (¬ umayor < 0 ∧ umayor.toNatClampNeg < nr)) (sz : Nat) : Met l yX0_sum (ws_ yX0_sum cX0_sum 9 (some .long)) (zR 5 0 0) (zPm G sz [.ref xA, .int target, .int (zb self)] ((xS_ G xa_ways xwA xw) ++ (xA_ G xA xa_trays xa_tape x_taped x_faultKind x_faultAt xa_bad xa_refused x_status x_above x_under nA xa_marks x_markMany xa_pictures x_lead x_round xa_ways x_bestSet x_bestMany x_left xa_aside xa_last x_hasLived uA n_year) ++ (hW G uA tA uA_bo uA_st uA_se ulit umayor unight uoil uborn ustays useen) ++ (tW G tA tA_be tA_le tA_mo tA_rn tA_cn tA_bo tA_st (nI Wd) (nI R) thouses talways tnever (nI nr) (nI nc) tring tbeside tleast tmost trnames))) (zQm G (True) (some (.long ((xf_sum xw umayor uborn ustays Wd R thouses talways tnever tring target self).1))) ((xS_ G xa_ways xwA ((xf_sum xw umayor uborn ustays Wd R thouses talways tnever tring target self).2)) ++ (xA_ G xA xa_trays xa_tape x_taped x_faultKind x_faultAt xa_bad xa_refused x_status x_above x_under nA xa_marks x_markMany xa_pictures x_lead x_round xa_ways x_bestSet x_bestMany x_left xa_aside xa_last x_hasLived uA n_year) ++ (hW G uA tA uA_bo uA_st uA_se ulit umayor unight uoil uborn ustays useen) ++ (tW G tA tA_be tA_le tA_mo tA_rn tA_cn tA_bo tA_st (nI Wd) (nI R) thouses talways tnever (nI nr) (nI nc) tring tbeside tleast tmost trnames)) (va_A ((xS_ G xa_ways xwA xw) ++ (xA_ G xA xa_trays xa_tape x_taped x_faultKind x_faultAt xa_bad xa_refused x_status x_above x_under nA xa_marks x_markMany xa_pictures x_lead x_round xa_ways x_bestSet x_bestMany x_left xa_aside xa_last x_hasLived uA n_year) ++ (hW G uA tA uA_bo uA_st uA_se ulit umayor unight uoil uborn ustays useen) ++ (tW G tA tA_be tA_le tA_mo tA_rn tA_cn tA_bo tA_st (nI Wd) (nI R) thouses talways tnever (nI nr) (nI nc) tring tbeside tleast tmost trnames)) sz)) 0 0 (va_A ((xS_ G xa_ways xwA xw) ++ (xA_ G xA xa_trays xa_tape x_taped x_faultKind x_faultAt xa_bad xa_refused x_status x_above x_under nA xa_marks x_markMany xa_pictures x_lead x_round xa_ways x_bestSet x_bestMany x_left xa_aside xa_last x_hasLived uA n_year) ++ (hW G uA tA uA_bo uA_st uA_se ulit umayor unight uoil uborn ustays useen) ++ (tW G tA tA_be tA_le tA_mo tA_rn tA_cn tA_bo tA_st (nI Wd) (nI R) thouses talways tnever (nI nr) (nI nc) tring tbeside tleast tmost trnames)) sz) := by
  refine zr_entM (by decide) (Nat.le_of_ble_eq_true rfl) ?_
  intro p e s m below meth c ⟨hx, hb, hr, hml, hown, hts, hlocks, hnm⟩ ls hl hP hK A hE hA hD hS
  have hown : s.vm.findClass RX0 = some m.cls := hown
  have hl : lv_has ls 9 [(0, .ref xA), (1, .int target), (2, .int (zb self))] := hl
  obtain ⟨H, hH⟩ : ∃ H, H = s.heap := ⟨_, rfl⟩
  obtain ⟨locs, hlo⟩ : ∃ L : List Loc, L = [] := ⟨_, rfl⟩
  rw [← hH] at hP
  have hS : va_S A s.heap H locs := by rw [hH, hlo]; exact va_S.rf
  have hgo : W p l e (zR 5 0 0) s m ([.ref xA, .int target, .int (zb self)] : List Value).toArray below meth c H locs 0 0 (MQ below (zQm G (True) (some (.long ((xf_sum xw umayor uborn ustays Wd R thouses talways tnever tring target self).1))) ((xS_ G xa_ways xwA ((xf_sum xw umayor uborn ustays Wd R thouses talways tnever tring target self).2)) ++ (xA_ G xA xa_trays xa_tape x_taped x_faultKind x_faultAt xa_bad xa_refused x_status x_above x_under nA xa_marks x_markMany xa_pictures x_lead x_round xa_ways x_bestSet x_bestMany x_left xa_aside xa_last x_hasLived uA n_year) ++ (hW G uA tA uA_bo uA_st uA_se ulit umayor unight uoil uborn ustays useen) ++ (tW G tA tA_be tA_le tA_mo tA_rn tA_cn tA_bo tA_st (nI Wd) (nI R) thouses talways tnever (nI nr) (nI nc) tring tbeside tleast tmost trnames)) A) ([.ref xA, .int target, .int (zb self)] : List Value).toArray s 0 0 A) (F0 m 0 ls []) := ?_
  · rw [hH, hlo] at hgo; exact hgo
  clear hH hlo
  have hTT := hT
  obtain ⟨hW0, hW5, hR0, hR6, hn4, hc6, hWR⟩ := hTT
  have hpw := zpw_le Wd (by omega)
  have hpw1 := zpw_1 Wd (by omega)
  refine lv_aload_n hx hb dX0_sum_0 rfl (lv_at hl 0 rfl) ?_
  refine lv_iload_n hx hb dX0_sum_1 rfl (lv_at hl 1 rfl) ?_
  refine lv_iload_n hx hb dX0_sum_2 rfl (lv_at hl 2 rfl) ?_
  refine zr_muV (F := xf_fill xw umayor uborn ustays Wd R thouses talways tnever tring target self) (ff := fun t_1 => True) (rr := fun t_1 => none) (w1 := fun t_1 => ((xS_ G xa_ways xwA t_1) ++ (xA_ G xA xa_trays xa_tape x_taped x_faultKind x_faultAt xa_bad xa_refused x_status x_above x_under nA xa_marks x_markMany xa_pictures x_lead x_round xa_ways x_bestSet x_bestMany x_left xa_aside xa_last x_hasLived uA n_year) ++ (hW G uA tA uA_bo uA_st uA_se ulit umayor unight uoil uborn ustays useen) ++ (tW G tA tA_be tA_le tA_mo tA_rn tA_cn tA_bo tA_st (nI Wd) (nI R) thouses talways tnever (nI nr) (nI nc) tring tbeside tleast tmost trnames))) ⟨hx, hb, hml, hown, hts⟩ (mt_xf_fill l G xa_ways xwA xw xA xa_trays xa_tape x_taped x_faultKind x_faultAt xa_bad xa_refused x_status x_above x_under nA xa_marks x_markMany xa_pictures x_lead x_round x_bestSet x_bestMany x_left xa_aside xa_last x_hasLived uA n_year tA uA_bo uA_st uA_se ulit umayor unight uoil uborn ustays useen tA_be tA_le tA_mo tA_rn tA_cn tA_bo tA_st Wd R thouses talways tnever nr nc tring tbeside tleast tmost trnames target self hT hmy H.size) (cwV 2 hts (lw_V q1159 q1161 qs44 q135 q1162) rfl rfl rfl hd_X0_fill ⟨(Nat.le_of_ble_eq_true rfl), (Nat.le_of_ble_eq_true rfl)⟩) hP hD hS hA hK hE 7 0 rfl rfl rfl hl.1 rfl (Nat.le_of_ble_eq_true rfl) dX0_sum_3 ⟨Nat.le_refl _, Nat.le_refl _⟩ (fun t_1 ht_1 hft_1 H locs hP hD hS _ => ?_)
  refine W.eq (g2 := F0 m 6 ls []) rfl ?_
  refine lv_iconst (v := 1) hx hb dX0_sum_6 (by decide) ?_
  refine lv_aload_n hx hb dX0_sum_7 rfl (lv_at hl 0 rfl) ?_
  refine zr_obV ⟨hx, hb, hml, hown, hts⟩ (mt_xf_at l G xA xa_trays xa_tape x_taped x_faultKind x_faultAt xa_bad xa_refused x_status x_above x_under nA xa_marks x_markMany xa_pictures x_lead x_round xa_ways x_bestSet x_bestMany x_left xa_aside xa_last x_hasLived uA n_year tA uA_bo uA_st uA_se ulit umayor unight uoil uborn ustays useen tA_be tA_le tA_mo tA_rn tA_cn tA_bo tA_st Wd R thouses talways tnever nr nc tring tbeside tleast tmost trnames hT) (cwV 0 hts (lw_V q891 q893 qs28 q135 q894) rfl rfl rfl hd_X0_at ⟨(Nat.le_of_ble_eq_true rfl), (Nat.le_of_ble_eq_true rfl)⟩) (zP_sub hP (ws' := ((xA_ G xA xa_trays xa_tape x_taped x_faultKind x_faultAt xa_bad xa_refused x_status x_above x_under nA xa_marks x_markMany xa_pictures x_lead x_round xa_ways x_bestSet x_bestMany x_left xa_aside xa_last x_hasLived uA n_year) ++ (hW G uA tA uA_bo uA_st uA_se ulit umayor unight uoil uborn ustays useen) ++ (tW G tA tA_be tA_le tA_mo tA_rn tA_cn tA_bo tA_st (nI Wd) (nI R) thouses talways tnever (nI nr) (nI nc) tring tbeside tleast tmost trnames))) [7, 8, 9, 10, 11, 12, 13, 14, 15, 16, 17] rfl) hK (zE_o hE hS) 0 0 rfl rfl rfl hl.1 rfl (Nat.le_of_ble_eq_true rfl) dX0_sum_8 ⟨Nat.le_refl _, Nat.le_refl _⟩ ?_
  refine va_getN (D := G.1) (ci := 6) (v := .int (nI Wd)) (C := RX6) (T := TX6) (N := 15) hx hb hts in_X6 hown hK.1 hP 13 rfl rfl 0 (Nat.le_of_ble_eq_true rfl) ((hK.2.1.1 _ (List.mem_of_getElem? (i := 4) rfl)).use rfl) (fun _ h => h) rfl dX0_sum_11 ?_
  refine lv_ishl hx hb dX0_sum_14 ?_
  refine zr_val (congrArg Value.int (zpw_e Wd (by omega))) ?_
  refine W.eq (g2 := F0 m 15 ls [.int (nI (zpw Wd))]) rfl ?_
  refine lv_istore_n (lv' := [(3, .int (nI (zpw Wd))), (0, .ref xA), (1, .int target), (2, .int (zb self))]) hx hb dX0_sum_15 rfl hl (by decide) rfl (fun ls hl => ?_)
  refine lv_aload_n hx hb dX0_sum_16 rfl (lv_at hl 1 rfl) ?_
  refine zr_obV ⟨hx, hb, hml, hown, hts⟩ (mt_xf_at l G xA xa_trays xa_tape x_taped x_faultKind x_faultAt xa_bad xa_refused x_status x_above x_under nA xa_marks x_markMany xa_pictures x_lead x_round xa_ways x_bestSet x_bestMany x_left xa_aside xa_last x_hasLived uA n_year tA uA_bo uA_st uA_se ulit umayor unight uoil uborn ustays useen tA_be tA_le tA_mo tA_rn tA_cn tA_bo tA_st Wd R thouses talways tnever nr nc tring tbeside tleast tmost trnames hT) (cwV 0 hts (lw_V q891 q893 qs28 q135 q894) rfl rfl rfl hd_X0_at ⟨(Nat.le_of_ble_eq_true rfl), (Nat.le_of_ble_eq_true rfl)⟩) (zP_sub hP (ws' := ((xA_ G xA xa_trays xa_tape x_taped x_faultKind x_faultAt xa_bad xa_refused x_status x_above x_under nA xa_marks x_markMany xa_pictures x_lead x_round xa_ways x_bestSet x_bestMany x_left xa_aside xa_last x_hasLived uA n_year) ++ (hW G uA tA uA_bo uA_st uA_se ulit umayor unight uoil uborn ustays useen) ++ (tW G tA tA_be tA_le tA_mo tA_rn tA_cn tA_bo tA_st (nI Wd) (nI R) thouses talways tnever (nI nr) (nI nc) tring tbeside tleast tmost trnames))) [7, 8, 9, 10, 11, 12, 13, 14, 15, 16, 17] rfl) hK (zE_o hE hS) 0 0 rfl rfl rfl hl.1 rfl (Nat.le_of_ble_eq_true rfl) dX0_sum_17 ⟨Nat.le_refl _, Nat.le_refl _⟩ ?_
  refine va_getN (D := G.1) (ci := 6) (v := .int (nI R)) (C := RX6) (T := TX6) (N := 15) hx hb hts in_X6 hown hK.1 hP 13 rfl rfl 1 (Nat.le_of_ble_eq_true rfl) ((hK.2.1.1 _ (List.mem_of_getElem? (i := 5) rfl)).use rfl) (fun _ h => h) rfl dX0_sum_20 ?_
  refine lv_iconst (v := 1) hx hb dX0_sum_23 (by decide) ?_
  refine zr_isubN R 1 (by omega) hx hb dX0_sum_24 ?_
  refine lv_istore (lv' := [(4, .int (nI (R - 1))), (3, .int (nI (zpw Wd))), (0, .ref xA), (1, .int target), (2, .int (zb self))]) hx hb dX0_sum_25 hl (by decide) rfl (fun ls hl => ?_)
  refine lv_lconst (v := 0) hx hb dX0_sum_27 rfl ?_
  refine lv_lstore (lv' := [(5, .long 0), (4, .int (nI (R - 1))), (3, .int (nI (zpw Wd))), (0, .ref xA), (1, .int target), (2, .int (zb self))]) hx hb dX0_sum_28 hl (by decide) rfl (fun ls hl => ?_)
  refine lv_iconst (v := 0) hx hb dX0_sum_30 (by decide) ?_
  refine lv_istore (lv' := [(7, .int 0), (5, .long 0), (4, .int (nI (R - 1))), (3, .int (nI (zpw Wd))), (0, .ref xA), (1, .int target), (2, .int (zb self))]) hx hb dX0_sum_31 hl (by decide) rfl (fun ls hl => ?_)
  have hlp_2 : ∀ (n k_2 : Nat) (s_2 : Int64), k_2 ≤ zpw Wd → zpw Wd < k_2 + n → zf (xf_sum_B33 umayor uborn ustays Wd R thouses talways tnever tring target self t_1) 0 k_2 = s_2 → ∀ (H : Heap) (locs : List Loc), va_P G.1 zcl ((xS_ G xa_ways xwA t_1) ++ (xA_ G xA xa_trays xa_tape x_taped x_faultKind x_faultAt xa_bad xa_refused x_status x_above x_under nA xa_marks x_markMany xa_pictures x_lead x_round xa_ways x_bestSet x_bestMany x_left xa_aside xa_last x_hasLived uA n_year) ++ (hW G uA tA uA_bo uA_st uA_se ulit umayor unight uoil uborn ustays useen) ++ (tW G tA tA_be tA_le tA_mo tA_rn tA_cn tA_bo tA_st (nI Wd) (nI R) thouses talways tnever (nI nr) (nI nc) tring tbeside tleast tmost trnames)) H → va_D A ((xS_ G xa_ways xwA t_1) ++ (xA_ G xA xa_trays xa_tape x_taped x_faultKind x_faultAt xa_bad xa_refused x_status x_above x_under nA xa_marks x_markMany xa_pictures x_lead x_round xa_ways x_bestSet x_bestMany x_left xa_aside xa_last x_hasLived uA n_year) ++ (hW G uA tA uA_bo uA_st uA_se ulit umayor unight uoil uborn ustays useen) ++ (tW G tA tA_be tA_le tA_mo tA_rn tA_cn tA_bo tA_st (nI Wd) (nI R) thouses talways tnever (nI nr) (nI nc) tring tbeside tleast tmost trnames)) → va_S A s.heap H locs → ∀ ls : Array Slot, lv_has ls 9 [(7, .int (nI k_2)), (5, .long s_2), (4, .int (nI (R - 1))), (3, .int (nI (zpw Wd))), (0, .ref xA), (1, .int target), (2, .int (zb self))] → W p l e (zR 5 0 0) s m ([.ref xA, .int target, .int (zb self)] : List Value).toArray below meth c H locs 0 0 (MQ below (zQm G (True) (some (.long ((xf_sum xw umayor uborn ustays Wd R thouses talways tnever tring target self).1))) ((xS_ G xa_ways xwA ((xf_sum xw umayor uborn ustays Wd R thouses talways tnever tring target self).2)) ++ (xA_ G xA xa_trays xa_tape x_taped x_faultKind x_faultAt xa_bad xa_refused x_status x_above x_under nA xa_marks x_markMany xa_pictures x_lead x_round xa_ways x_bestSet x_bestMany x_left xa_aside xa_last x_hasLived uA n_year) ++ (hW G uA tA uA_bo uA_st uA_se ulit umayor unight uoil uborn ustays useen) ++ (tW G tA tA_be tA_le tA_mo tA_rn tA_cn tA_bo tA_st (nI Wd) (nI R) thouses talways tnever (nI nr) (nI nc) tring tbeside tleast tmost trnames)) A) ([.ref xA, .int target, .int (zb self)] : List Value).toArray s 0 0 A) (F0 m 33 ls []) := by
    intro n
    induction n with
    | zero => intro k_2 s_2 h1 h2; exact absurd h2 (by omega)
    | succ n ih_2 =>
      intro k_2 s_2 hk_2 hn_2 hst_2 H locs hP hD hS ls hl
      refine lv_iload hx hb dX0_sum_33 (lv_at hl 0 rfl) ?_
      refine lv_iload_n hx hb dX0_sum_35 rfl (lv_at hl 3 rfl) ?_
      refine zr_ge k_2 (zpw Wd) (by omega) (by omega) (tgt := 118) hx hb dX0_sum_36 (by decide) (fun c_2 => ?_) (fun c_2 => ?_)
      · have ek_2 : k_2 = zpw Wd := Nat.le_antisymm hk_2 c_2
        have hs_2 : xf_sum_L33 umayor uborn ustays Wd R thouses talways tnever tring target self t_1 0 = s_2 := by rw [ek_2] at hst_2; exact hst_2
        have hl := lv_sub hl (l' := _) [1, 2, 3, 4, 5, 6] rfl
        refine lv_lload hx hb dX0_sum_118 (lv_at hl 0 rfl) ?_
        have e_ : xf_sum xw umayor uborn ustays Wd R thouses talways tnever tring target self = (s_2, t_1) := by rw [xf_sum, zlet_eq ht_1, zlet_eq hs_2]
        exact zr_ml hx hb hr hlocks hP hD hS dX0_sum_120 (by rw [e_])  (by rw [e_]) trivial
      · have hlt_2 : k_2 < zpw Wd := Nat.lt_of_not_le c_2
        refine lv_iconst (v := 0) hx hb dX0_sum_39 (by decide) ?_
        refine lv_istore (lv' := [(8, .int 0), (7, .int (nI k_2)), (5, .long s_2), (4, .int (nI (R - 1))), (3, .int (nI (zpw Wd))), (0, .ref xA), (1, .int target), (2, .int (zb self))]) hx hb dX0_sum_40 hl (by decide) rfl (fun ls hl => ?_)
        have hlp_3 : ∀ (n k_3 : Nat) (s_3 : Int64), k_3 ≤ zpw Wd → zpw Wd < k_3 + n → zf (xf_sum_B42 umayor uborn ustays Wd R thouses talways tnever tring target self t_1 k_2) s_2 k_3 = s_3 → ∀ (H : Heap) (locs : List Loc), va_P G.1 zcl ((xS_ G xa_ways xwA t_1) ++ (xA_ G xA xa_trays xa_tape x_taped x_faultKind x_faultAt xa_bad xa_refused x_status x_above x_under nA xa_marks x_markMany xa_pictures x_lead x_round xa_ways x_bestSet x_bestMany x_left xa_aside xa_last x_hasLived uA n_year) ++ (hW G uA tA uA_bo uA_st uA_se ulit umayor unight uoil uborn ustays useen) ++ (tW G tA tA_be tA_le tA_mo tA_rn tA_cn tA_bo tA_st (nI Wd) (nI R) thouses talways tnever (nI nr) (nI nc) tring tbeside tleast tmost trnames)) H → va_D A ((xS_ G xa_ways xwA t_1) ++ (xA_ G xA xa_trays xa_tape x_taped x_faultKind x_faultAt xa_bad xa_refused x_status x_above x_under nA xa_marks x_markMany xa_pictures x_lead x_round xa_ways x_bestSet x_bestMany x_left xa_aside xa_last x_hasLived uA n_year) ++ (hW G uA tA uA_bo uA_st uA_se ulit umayor unight uoil uborn ustays useen) ++ (tW G tA tA_be tA_le tA_mo tA_rn tA_cn tA_bo tA_st (nI Wd) (nI R) thouses talways tnever (nI nr) (nI nc) tring tbeside tleast tmost trnames)) → va_S A s.heap H locs → ∀ ls : Array Slot, lv_has ls 9 [(8, .int (nI k_3)), (7, .int (nI k_2)), (5, .long s_3), (4, .int (nI (R - 1))), (3, .int (nI (zpw Wd))), (0, .ref xA), (1, .int target), (2, .int (zb self))] → W p l e (zR 5 0 0) s m ([.ref xA, .int target, .int (zb self)] : List Value).toArray below meth c H locs 0 0 (MQ below (zQm G (True) (some (.long ((xf_sum xw umayor uborn ustays Wd R thouses talways tnever tring target self).1))) ((xS_ G xa_ways xwA ((xf_sum xw umayor uborn ustays Wd R thouses talways tnever tring target self).2)) ++ (xA_ G xA xa_trays xa_tape x_taped x_faultKind x_faultAt xa_bad xa_refused x_status x_above x_under nA xa_marks x_markMany xa_pictures x_lead x_round xa_ways x_bestSet x_bestMany x_left xa_aside xa_last x_hasLived uA n_year) ++ (hW G uA tA uA_bo uA_st uA_se ulit umayor unight uoil uborn ustays useen) ++ (tW G tA tA_be tA_le tA_mo tA_rn tA_cn tA_bo tA_st (nI Wd) (nI R) thouses talways tnever (nI nr) (nI nc) tring tbeside tleast tmost trnames)) A) ([.ref xA, .int target, .int (zb self)] : List Value).toArray s 0 0 A) (F0 m 42 ls []) := by
          intro n
          induction n with
          | zero => intro k_3 s_3 h1 h2; exact absurd h2 (by omega)
          | succ n ih_3 =>
            intro k_3 s_3 hk_3 hn_3 hst_3 H locs hP hD hS ls hl
            refine lv_iload hx hb dX0_sum_42 (lv_at hl 0 rfl) ?_
            refine lv_iload_n hx hb dX0_sum_44 rfl (lv_at hl 4 rfl) ?_
            refine zr_ge k_3 (zpw Wd) (by omega) (by omega) (tgt := 112) hx hb dX0_sum_45 (by decide) (fun c_3 => ?_) (fun c_3 => ?_)
            · have ek_3 : k_3 = zpw Wd := Nat.le_antisymm hk_3 c_3
              have hs_3 : xf_sum_L42 umayor uborn ustays Wd R thouses talways tnever tring target self t_1 k_2 s_2 = s_3 := by rw [ek_3] at hst_3; exact hst_3
              have hl := lv_sub hl (l' := _) [1, 2, 3, 4, 5, 6, 7] rfl
              refine lv_iinc (v := nI (k_2 + 1)) (lv' := [(7, .int (nI (k_2 + 1))), (5, .long s_3), (4, .int (nI (R - 1))), (3, .int (nI (zpw Wd))), (0, .ref xA), (1, .int target), (2, .int (zb self))]) hx hb dX0_sum_112 hl (k := 0) rfl (nI_add k_2 1) (by decide) rfl (fun ls hl => ?_)
              refine lv_goto (tgt := 33) hx hb dX0_sum_115 (by decide) ?_
              exact ih_2 (k_2 + 1) s_3 hlt_2 (by omega) (zf_s hst_2 (by rw [xf_sum_B33, zlet_eq hs_3])) H locs hP hD hS ls (lv_sub hl [0, 1, 2, 3, 4, 5, 6] rfl)
            · have hlt_3 : k_3 < zpw Wd := Nat.lt_of_not_le c_3
              refine lv_aload_n hx hb dX0_sum_48 rfl (lv_at hl 5 rfl) ?_
              refine va_get (D := G.1) (ci := 0) (v := .ref xa_ways) (C := RX0) (T := TX0) (N := 23) hx hb hts in_X0 hown hK.1 hP 7 rfl rfl 16 (Nat.le_of_ble_eq_true rfl) (hts _ q441) (fun _ h => h) rfl dX0_sum_49 ?_
              refine lv_iload hx hb dX0_sum_52 (lv_at hl 3 rfl) ?_
              refine zr_aaldL (R - 1) hx hb hK hP 0 rfl rfl (Nat.le_of_ble_eq_true rfl) rfl (by omega) rfl dX0_sum_54 ?_
              refine lv_bipush (v := 32) hx hb dX0_sum_55 (by decide) ?_
              refine lv_iload hx hb dX0_sum_57 (lv_at hl 1 rfl) ?_
              refine zr_imulN 32 k_2 hx hb dX0_sum_59 ?_
              refine lv_iload hx hb dX0_sum_60 (lv_at hl 0 rfl) ?_
              refine zr_iaddN (32 * k_2) k_3 hx hb dX0_sum_62 ?_
              refine zr_val (v' := .int (nI (32 * k_2 + k_3))) (by rfl) ?_
              refine zr_lald (32 * k_2 + k_3) (v := t_1 (R - 1) (32 * k_2 + k_3)) hx hb hK hP (1 + (R - 1)) (zget4 (xS_get _ _ _ _ (R - 1) (by omega))) rfl (Nat.le_of_ble_eq_true rfl) rfl (by omega) rfl dX0_sum_63 ?_
              refine lv_lconst (v := 0) hx hb dX0_sum_64 rfl ?_
              refine W.lcmp hx hb dX0_sum_65 ?_
              refine zr_lle (tgt := 106) hx hb dX0_sum_66 (by decide) (fun c_4 => ?_) (fun c_4 => ?_)
              · refine lv_iinc (v := nI (k_3 + 1)) (lv' := [(8, .int (nI (k_3 + 1))), (7, .int (nI k_2)), (5, .long s_3), (4, .int (nI (R - 1))), (3, .int (nI (zpw Wd))), (0, .ref xA), (1, .int target), (2, .int (zb self))]) hx hb dX0_sum_106 hl (k := 0) rfl (nI_add k_3 1) (by decide) rfl (fun ls hl => ?_)
                refine lv_goto (tgt := 42) hx hb dX0_sum_109 (by decide) ?_
                exact ih_3 (k_3 + 1) s_3 hlt_3 (by omega) (zf_s hst_3 (by rw [xf_sum_B42, if_neg c_4])) H locs hP hD hS ls (lv_sub hl [0, 1, 2, 3, 4, 5, 6, 7] rfl)
              · refine lv_aload_n hx hb dX0_sum_69 rfl (lv_at hl 5 rfl) ?_
                refine lv_iload hx hb dX0_sum_70 (lv_at hl 3 rfl) ?_
                refine lv_iload hx hb dX0_sum_72 (lv_at hl 1 rfl) ?_
                refine lv_iload hx hb dX0_sum_74 (lv_at hl 0 rfl) ?_
                refine lv_iconst (v := 0) hx hb dX0_sum_76 (by decide) ?_
                refine lv_iload_n hx hb dX0_sum_77 rfl (lv_at hl 6 rfl) ?_
                refine lv_iload_n hx hb dX0_sum_78 rfl (lv_at hl 7 rfl) ?_
                refine zr_obV ⟨hx, hb, hml, hown, hts⟩ (mt_xf_fits6 l G xA xa_trays xa_tape x_taped x_faultKind x_faultAt xa_bad xa_refused x_status x_above x_under nA xa_marks x_markMany xa_pictures x_lead x_round xa_ways x_bestSet x_bestMany x_left xa_aside xa_last x_hasLived uA n_year tA uA_bo uA_st uA_se ulit umayor unight uoil uborn ustays useen tA_be tA_le tA_mo tA_rn tA_cn tA_bo tA_st Wd R thouses talways tnever nr nc tring tbeside tleast tmost trnames (nI (R - 1)) (nI k_2) (nI k_3) 0 target self hT hmy) (cwV 6 hts (lw_V q1167 q1169 qs46 q135 q1170) rfl rfl rfl hd_X0_fits ⟨(Nat.le_of_ble_eq_true rfl), (Nat.le_of_ble_eq_true rfl)⟩) (zP_sub hP (ws' := ((xA_ G xA xa_trays xa_tape x_taped x_faultKind x_faultAt xa_bad xa_refused x_status x_above x_under nA xa_marks x_markMany xa_pictures x_lead x_round xa_ways x_bestSet x_bestMany x_left xa_aside xa_last x_hasLived uA n_year) ++ (hW G uA tA uA_bo uA_st uA_se ulit umayor unight uoil uborn ustays useen) ++ (tW G tA tA_be tA_le tA_mo tA_rn tA_cn tA_bo tA_st (nI Wd) (nI R) thouses talways tnever (nI nr) (nI nc) tring tbeside tleast tmost trnames))) [7, 8, 9, 10, 11, 12, 13, 14, 15, 16, 17] rfl) hK (zE_o hE hS) 0 0 rfl rfl rfl hl.1 rfl (Nat.le_of_ble_eq_true rfl) dX0_sum_79 ⟨Nat.le_refl _, Nat.le_refl _⟩ ?_
                refine zr_eqB (xf_fits6 umayor uborn ustays Wd thouses talways tnever tring (nI (R - 1)) (nI k_2) (nI k_3) 0 target self) (tgt := 106) hx hb dX0_sum_82 (by decide) (fun c_5 => ?_) (fun c_5 => ?_)
                · refine lv_iinc (v := nI (k_3 + 1)) (lv' := [(8, .int (nI (k_3 + 1))), (7, .int (nI k_2)), (5, .long s_3), (4, .int (nI (R - 1))), (3, .int (nI (zpw Wd))), (0, .ref xA), (1, .int target), (2, .int (zb self))]) hx hb dX0_sum_106 hl (k := 0) rfl (nI_add k_3 1) (by decide) rfl (fun ls hl => ?_)
                  refine lv_goto (tgt := 42) hx hb dX0_sum_109 (by decide) ?_
                  exact ih_3 (k_3 + 1) s_3 hlt_3 (by omega) (zf_s hst_3 (by rw [xf_sum_B42, if_pos c_4, if_neg c_5])) H locs hP hD hS ls (lv_sub hl [0, 1, 2, 3, 4, 5, 6, 7] rfl)
                · refine lv_lload hx hb dX0_sum_85 (lv_at hl 2 rfl) ?_
                  refine lv_aload_n hx hb dX0_sum_87 rfl (lv_at hl 5 rfl) ?_
                  refine va_get (D := G.1) (ci := 0) (v := .ref xa_ways) (C := RX0) (T := TX0) (N := 23) hx hb hts in_X0 hown hK.1 hP 7 rfl rfl 16 (Nat.le_of_ble_eq_true rfl) (hts _ q441) (fun _ h => h) rfl dX0_sum_88 ?_
                  refine lv_iload hx hb dX0_sum_91 (lv_at hl 3 rfl) ?_
                  refine zr_aaldL (R - 1) hx hb hK hP 0 rfl rfl (Nat.le_of_ble_eq_true rfl) rfl (by omega) rfl dX0_sum_93 ?_
                  refine lv_bipush (v := 32) hx hb dX0_sum_94 (by decide) ?_
                  refine lv_iload hx hb dX0_sum_96 (lv_at hl 1 rfl) ?_
                  refine zr_imulN 32 k_2 hx hb dX0_sum_98 ?_
                  refine lv_iload hx hb dX0_sum_99 (lv_at hl 0 rfl) ?_
                  refine zr_iaddN (32 * k_2) k_3 hx hb dX0_sum_101 ?_
                  refine zr_val (v' := .int (nI (32 * k_2 + k_3))) (by rfl) ?_
                  refine zr_lald (32 * k_2 + k_3) (v := t_1 (R - 1) (32 * k_2 + k_3)) hx hb hK hP (1 + (R - 1)) (zget4 (xS_get _ _ _ _ (R - 1) (by omega))) rfl (Nat.le_of_ble_eq_true rfl) rfl (by omega) rfl dX0_sum_102 ?_
                  refine lv_ladd hx hb dX0_sum_103 ?_
                  refine lv_lstore (lv' := [(5, .long (s_3 + (t_1 (R - 1) (32 * k_2 + k_3)))), (8, .int (nI k_3)), (7, .int (nI k_2)), (4, .int (nI (R - 1))), (3, .int (nI (zpw Wd))), (0, .ref xA), (1, .int target), (2, .int (zb self))]) hx hb dX0_sum_104 hl (by decide) rfl (fun ls hl => ?_)
                  refine lv_iinc (v := nI (k_3 + 1)) (lv' := [(8, .int (nI (k_3 + 1))), (5, .long (s_3 + (t_1 (R - 1) (32 * k_2 + k_3)))), (7, .int (nI k_2)), (4, .int (nI (R - 1))), (3, .int (nI (zpw Wd))), (0, .ref xA), (1, .int target), (2, .int (zb self))]) hx hb dX0_sum_106 hl (k := 1) rfl (nI_add k_3 1) (by decide) rfl (fun ls hl => ?_)
                  refine lv_goto (tgt := 42) hx hb dX0_sum_109 (by decide) ?_
                  exact ih_3 (k_3 + 1) (s_3 + (t_1 (R - 1) (32 * k_2 + k_3))) hlt_3 (by omega) (zf_s hst_3 (by rw [xf_sum_B42, if_pos c_4, if_pos c_5])) H locs hP hD hS ls (lv_sub hl [0, 2, 1, 3, 4, 5, 6, 7] rfl)
        exact hlp_3 ((zpw Wd) + 1) 0 s_2 (Nat.zero_le _) (by omega) rfl H locs hP hD hS ls (lv_sub hl [0, 1, 2, 3, 4, 5, 6, 7] rfl)
  exact hlp_2 ((zpw Wd) + 1) 0 0 (Nat.zero_le _) (by omega) rfl H locs hP hD hS ls (lv_sub hl [0, 1, 2, 3, 4, 5, 6] rfl)
theorem z_affm (n : Nat) : nI n + (-1) = nI n - 1 := by rw [Int32.sub_eq_add_neg]
theorem z_aj : ∀ j, j < 7 → ¬ (nI j - 1 < 0) → 1 ≤ j := by decide
def xf_least_B79 (umayor : Int32) (uborn : Nat → Int32) (ustays : Nat → Int32) (Wd : Nat) (thouses : Int32) (talways : Int32) (tnever : Int32) (tring : Bool) (target : Int32) (self : Bool) (t_1 : (Nat → Nat → Int64)) (s_2 : Nat × Int64 × Int32 × Int32) (s_4 : Nat × Int32 × Int32) (s_8 : Nat × Int32 × Int32) : (Nat × Int32 × Int32) ⊕ (Nat × Int32 × Int32) :=
  (if (zpw Wd) ≤ s_8.1 then
    .inr (s_8.1, s_8.2.1, s_8.2.2)
  else
    (if 0 ≤ s_8.2.2 then
      .inr (s_8.1, s_8.2.1, s_8.2.2)
    else
      (if (t_1 (s_2.1 - 1) (32 * s_8.1 + s_4.1)) = 0 then
        .inl (s_8.1 + 1, s_8.2.1, s_8.2.2)
      else
        (if (xf_fits6 umayor uborn ustays Wd thouses talways tnever tring (nI (s_2.1 - 1)) (nI s_8.1) (nI s_4.1) s_2.2.2.2 target self) = true then
          .inl (s_8.1 + 1, nI s_8.1, nI s_4.1)
        else
          .inl (s_8.1 + 1, s_8.2.1, s_8.2.2)))))
def xf_least_L79 (umayor : Int32) (uborn : Nat → Int32) (ustays : Nat → Int32) (Wd : Nat) (thouses : Int32) (talways : Int32) (tnever : Int32) (tring : Bool) (target : Int32) (self : Bool) (t_1 : (Nat → Nat → Int64)) (s_2 : Nat × Int64 × Int32 × Int32) (s_4 : Nat × Int32 × Int32) (s_8 : Nat × Int32 × Int32) : Nat × Int32 × Int32 := zw (xf_least_B79 umayor uborn ustays Wd thouses talways tnever tring target self t_1 s_2 s_4) (s_8) ((zpw Wd - s_8.1) + 1) s_8
def xf_least_B79b (umayor : Int32) (uborn : Nat → Int32) (ustays : Nat → Int32) (Wd : Nat) (thouses : Int32) (talways : Int32) (tnever : Int32) (tring : Bool) (target : Int32) (self : Bool) (t_1 : (Nat → Nat → Int64)) (s_2 : Nat × Int64 × Int32 × Int32) (s_4 : Nat × Int32 × Int32) (s_14 : Nat × Int32 × Int32) : (Nat × Int32 × Int32) ⊕ (Nat × Int32 × Int32) :=
  (if (zpw Wd) ≤ s_14.1 then
    .inr (s_14.1, s_14.2.1, s_14.2.2)
  else
    (if 0 ≤ s_14.2.2 then
      .inr (s_14.1, s_14.2.1, s_14.2.2)
    else
      (if (t_1 (s_2.1 - 1) (32 * s_14.1 + s_4.1)) = 0 then
        .inl (s_14.1 + 1, s_14.2.1, s_14.2.2)
      else
        (if (xf_fits6 umayor uborn ustays Wd thouses talways tnever tring (nI (s_2.1 - 1)) (nI s_14.1) (nI s_4.1) s_2.2.2.2 target self) = true then
          .inl (s_14.1 + 1, nI s_14.1, nI s_4.1)
        else
          .inl (s_14.1 + 1, s_14.2.1, s_14.2.2)))))
def xf_least_L79b (umayor : Int32) (uborn : Nat → Int32) (ustays : Nat → Int32) (Wd : Nat) (thouses : Int32) (talways : Int32) (tnever : Int32) (tring : Bool) (target : Int32) (self : Bool) (t_1 : (Nat → Nat → Int64)) (s_2 : Nat × Int64 × Int32 × Int32) (s_4 : Nat × Int32 × Int32) (s_14 : Nat × Int32 × Int32) : Nat × Int32 × Int32 := zw (xf_least_B79b umayor uborn ustays Wd thouses talways tnever tring target self t_1 s_2 s_4) (s_14) ((zpw Wd - s_14.1) + 1) s_14
def xf_least_B50 (umayor : Int32) (uborn : Nat → Int32) (ustays : Nat → Int32) (Wd : Nat) (thouses : Int32) (talways : Int32) (tnever : Int32) (tring : Bool) (target : Int32) (self : Bool) (t_1 : (Nat → Nat → Int64)) (s_2 : Nat × Int64 × Int32 × Int32) (s_4 : Nat × Int32 × Int32) : (Nat × Int32 × Int32) ⊕ (Nat × Int32 × Int32) :=
  (if (zpw Wd) ≤ s_4.1 then
    .inr (s_4.1, s_4.2.1, s_4.2.2)
  else
    (if 0 ≤ s_4.2.2 then
      .inr (s_4.1, s_4.2.1, s_4.2.2)
    else
      (if s_2.2.2.1 < 0 then
        zlet (xf_least_L79 umayor uborn ustays Wd thouses talways tnever tring target self t_1 s_2 s_4 (0, s_4.2.1, s_4.2.2)) (fun t_8 =>
        .inl (s_4.1 + 1, t_8.2.1, t_8.2.2))
      else
        (if (nI s_4.1) = s_2.2.2.1 then
          zlet (xf_least_L79b umayor uborn ustays Wd thouses talways tnever tring target self t_1 s_2 s_4 (0, s_4.2.1, s_4.2.2)) (fun t_14 =>
          .inl (s_4.1 + 1, t_14.2.1, t_14.2.2))
        else
          .inl (s_4.1 + 1, s_4.2.1, s_4.2.2)))))
def xf_least_L50 (umayor : Int32) (uborn : Nat → Int32) (ustays : Nat → Int32) (Wd : Nat) (thouses : Int32) (talways : Int32) (tnever : Int32) (tring : Bool) (target : Int32) (self : Bool) (t_1 : (Nat → Nat → Int64)) (s_2 : Nat × Int64 × Int32 × Int32) (s_4 : Nat × Int32 × Int32) : Nat × Int32 × Int32 := zw (xf_least_B50 umayor uborn ustays Wd thouses talways tnever tring target self t_1 s_2) (s_4) ((zpw Wd - s_4.1) + 1) s_4
def xf_least_B36 (umayor : Int32) (uborn : Nat → Int32) (ustays : Nat → Int32) (Wd : Nat) (R : Nat) (thouses : Int32) (talways : Int32) (tnever : Int32) (tring : Bool) (target : Int32) (self : Bool) (t_1 : (Nat → Nat → Int64)) (s_2 : Nat × Int64 × Int32 × Int32) : (Nat × Int64 × Int32 × Int32) ⊕ ((Nat × Int64 × Int32 × Int32) ⊕ (Int64 × (Nat → Nat → Int64))) :=
  (if (nI s_2.1 - 1) < 0 then
    .inr (.inl (s_2.1, s_2.2.1, s_2.2.2.1, s_2.2.2.2))
  else
    zlet (xf_least_L50 umayor uborn ustays Wd thouses talways tnever tring target self t_1 s_2 (0, (-1), (-1))) (fun t_4 =>
    (if 0 ≤ t_4.2.2 then
      .inl (s_2.1 - 1, s_2.2.1 ||| (t_4.2.2.toInt64 <<< ((nI (Wd * (s_2.1 - 1))).toInt64 &&& 63)), t_4.2.1, t_4.2.2)
    else
      .inr (.inr ((-1), t_1)))))
def xf_least_L36 (umayor : Int32) (uborn : Nat → Int32) (ustays : Nat → Int32) (Wd : Nat) (R : Nat) (thouses : Int32) (talways : Int32) (tnever : Int32) (tring : Bool) (target : Int32) (self : Bool) (t_1 : (Nat → Nat → Int64)) (s_2 : Nat × Int64 × Int32 × Int32) : (Nat × Int64 × Int32 × Int32) ⊕ (Int64 × (Nat → Nat → Int64)) := zw (xf_least_B36 umayor uborn ustays Wd R thouses talways tnever tring target self t_1) (.inl s_2) (s_2.1 + 1) s_2
def xf_least (xw : Nat → Nat → Int64) (umayor : Int32) (uborn : Nat → Int32) (ustays : Nat → Int32) (Wd : Nat) (R : Nat) (thouses : Int32) (talways : Int32) (tnever : Int32) (tring : Bool) (target : Int32) (self : Bool) : Int64 × (Nat → Nat → Int64) :=
  zlet (xf_fill xw umayor uborn ustays Wd R thouses talways tnever tring target self) (fun t_1 =>
  zcase (xf_least_L36 umayor uborn ustays Wd R thouses talways tnever tring target self t_1 (R, 0, (-1), 0)) (fun t_2 =>
  (t_2.2.1, t_1)) (fun r => r))
theorem hd_X0_least : yX0_least.cls = RX0 ∧ yX0_least.cls ≠ "java/lang/invoke/MethodHandle" ∧ yX0_least.cls ≠ "java/lang/invoke/VarHandle" ∧ (parseMethodDescriptor yX0_least.desc).map (fun d => d.parameters.length) = some 2 := by decide +kernel
set_option maxHeartbeats 4000000 in
set_option maxRecDepth 100000 in
theorem mt_xf_least (l : Launch) (G : zG) (xa_ways : Nat) (xwA : Nat → Nat) (xw : Nat → Nat → Int64) (xA : Nat) (xa_trays : Nat) (xa_tape : Nat) (x_taped : Int32) (x_faultKind : Int32) (x_faultAt : Int32) (xa_bad : Nat) (xa_refused : Nat) (x_status : Int32) (x_above : Int64) (x_under : Int64) (nA : Nat) (xa_marks : Nat) (x_markMany : Int32) (xa_pictures : Nat) (x_lead : Int32) (x_round : Int32) (x_bestSet : Int32) (x_bestMany : Int32) (x_left : Int32) (xa_aside : Nat) (xa_last : Nat) (x_hasLived : Bool) (uA : Nat) (n_year : Option Nat) (tA : Nat) (uA_bo : Nat) (uA_st : Nat) (uA_se : Nat) (ulit : Int32) (umayor : Int32) (unight : Int32) (uoil : Int32) (uborn : Nat → Int32) (ustays : Nat → Int32) (useen : Nat → Int32) (tA_be : Nat) (tA_le : Nat) (tA_mo : Nat) (tA_rn : Nat) (tA_cn : Nat) (tA_bo : Nat) (tA_st : Nat) (Wd : Nat) (R : Nat) (thouses : Int32) (talways : Int32) (tnever : Int32) (nr : Nat) (nc : Nat) (tring : Bool) (tbeside : Nat → Int32) (tleast : Nat → Int32) (tmost : Nat → Int32) (trnames : Nat → Int64) (target : Int32) (self : Bool) (hT : tOK Wd R nr nc) (hmy : umayor < 0 ∨ (¬ umayor < 0 ∧ umayor.toNatClampNeg < nr)) (sz : Nat) : Met l yX0_least (ws_ yX0_least cX0_least 13 (some .long)) (zR 5 0 0) (zPm G sz [.ref xA, .int target, .int (zb self)] ((xS_ G xa_ways xwA xw) ++ (xA_ G xA xa_trays xa_tape x_taped x_faultKind x_faultAt xa_bad xa_refused x_status x_above x_under nA xa_marks x_markMany xa_pictures x_lead x_round xa_ways x_bestSet x_bestMany x_left xa_aside xa_last x_hasLived uA n_year) ++ (hW G uA tA uA_bo uA_st uA_se ulit umayor unight uoil uborn ustays useen) ++ (tW G tA tA_be tA_le tA_mo tA_rn tA_cn tA_bo tA_st (nI Wd) (nI R) thouses talways tnever (nI nr) (nI nc) tring tbeside tleast tmost trnames))) (zQm G (True) (some (.long ((xf_least xw umayor uborn ustays Wd R thouses talways tnever tring target self).1))) ((xS_ G xa_ways xwA ((xf_least xw umayor uborn ustays Wd R thouses talways tnever tring target self).2)) ++ (xA_ G xA xa_trays xa_tape x_taped x_faultKind x_faultAt xa_bad xa_refused x_status x_above x_under nA xa_marks x_markMany xa_pictures x_lead x_round xa_ways x_bestSet x_bestMany x_left xa_aside xa_last x_hasLived uA n_year) ++ (hW G uA tA uA_bo uA_st uA_se ulit umayor unight uoil uborn ustays useen) ++ (tW G tA tA_be tA_le tA_mo tA_rn tA_cn tA_bo tA_st (nI Wd) (nI R) thouses talways tnever (nI nr) (nI nc) tring tbeside tleast tmost trnames)) (va_A ((xS_ G xa_ways xwA xw) ++ (xA_ G xA xa_trays xa_tape x_taped x_faultKind x_faultAt xa_bad xa_refused x_status x_above x_under nA xa_marks x_markMany xa_pictures x_lead x_round xa_ways x_bestSet x_bestMany x_left xa_aside xa_last x_hasLived uA n_year) ++ (hW G uA tA uA_bo uA_st uA_se ulit umayor unight uoil uborn ustays useen) ++ (tW G tA tA_be tA_le tA_mo tA_rn tA_cn tA_bo tA_st (nI Wd) (nI R) thouses talways tnever (nI nr) (nI nc) tring tbeside tleast tmost trnames)) sz)) 0 0 (va_A ((xS_ G xa_ways xwA xw) ++ (xA_ G xA xa_trays xa_tape x_taped x_faultKind x_faultAt xa_bad xa_refused x_status x_above x_under nA xa_marks x_markMany xa_pictures x_lead x_round xa_ways x_bestSet x_bestMany x_left xa_aside xa_last x_hasLived uA n_year) ++ (hW G uA tA uA_bo uA_st uA_se ulit umayor unight uoil uborn ustays useen) ++ (tW G tA tA_be tA_le tA_mo tA_rn tA_cn tA_bo tA_st (nI Wd) (nI R) thouses talways tnever (nI nr) (nI nc) tring tbeside tleast tmost trnames)) sz) := by
  refine zr_entM (by decide) (Nat.le_of_ble_eq_true rfl) ?_
  intro p e s m below meth c ⟨hx, hb, hr, hml, hown, hts, hlocks, hnm⟩ ls hl hP hK A hE hA hD hS
  have hown : s.vm.findClass RX0 = some m.cls := hown
  have hl : lv_has ls 13 [(0, .ref xA), (1, .int target), (2, .int (zb self))] := hl
  obtain ⟨H, hH⟩ : ∃ H, H = s.heap := ⟨_, rfl⟩
  obtain ⟨locs, hlo⟩ : ∃ L : List Loc, L = [] := ⟨_, rfl⟩
  rw [← hH] at hP
  have hS : va_S A s.heap H locs := by rw [hH, hlo]; exact va_S.rf
  have hgo : W p l e (zR 5 0 0) s m ([.ref xA, .int target, .int (zb self)] : List Value).toArray below meth c H locs 0 0 (MQ below (zQm G (True) (some (.long ((xf_least xw umayor uborn ustays Wd R thouses talways tnever tring target self).1))) ((xS_ G xa_ways xwA ((xf_least xw umayor uborn ustays Wd R thouses talways tnever tring target self).2)) ++ (xA_ G xA xa_trays xa_tape x_taped x_faultKind x_faultAt xa_bad xa_refused x_status x_above x_under nA xa_marks x_markMany xa_pictures x_lead x_round xa_ways x_bestSet x_bestMany x_left xa_aside xa_last x_hasLived uA n_year) ++ (hW G uA tA uA_bo uA_st uA_se ulit umayor unight uoil uborn ustays useen) ++ (tW G tA tA_be tA_le tA_mo tA_rn tA_cn tA_bo tA_st (nI Wd) (nI R) thouses talways tnever (nI nr) (nI nc) tring tbeside tleast tmost trnames)) A) ([.ref xA, .int target, .int (zb self)] : List Value).toArray s 0 0 A) (F0 m 0 ls []) := ?_
  · rw [hH, hlo] at hgo; exact hgo
  clear hH hlo
  have hTT := hT
  obtain ⟨hW0, hW5, hR0, hR6, hn4, hc6, hWR⟩ := hTT
  have hpw := zpw_le Wd (by omega)
  have hpw1 := zpw_1 Wd (by omega)
  refine lv_aload_n hx hb dX0_least_0 rfl (lv_at hl 0 rfl) ?_
  refine lv_iload_n hx hb dX0_least_1 rfl (lv_at hl 1 rfl) ?_
  refine lv_iload_n hx hb dX0_least_2 rfl (lv_at hl 2 rfl) ?_
  refine zr_muV (F := xf_fill xw umayor uborn ustays Wd R thouses talways tnever tring target self) (ff := fun t_1 => True) (rr := fun t_1 => none) (w1 := fun t_1 => ((xS_ G xa_ways xwA t_1) ++ (xA_ G xA xa_trays xa_tape x_taped x_faultKind x_faultAt xa_bad xa_refused x_status x_above x_under nA xa_marks x_markMany xa_pictures x_lead x_round xa_ways x_bestSet x_bestMany x_left xa_aside xa_last x_hasLived uA n_year) ++ (hW G uA tA uA_bo uA_st uA_se ulit umayor unight uoil uborn ustays useen) ++ (tW G tA tA_be tA_le tA_mo tA_rn tA_cn tA_bo tA_st (nI Wd) (nI R) thouses talways tnever (nI nr) (nI nc) tring tbeside tleast tmost trnames))) ⟨hx, hb, hml, hown, hts⟩ (mt_xf_fill l G xa_ways xwA xw xA xa_trays xa_tape x_taped x_faultKind x_faultAt xa_bad xa_refused x_status x_above x_under nA xa_marks x_markMany xa_pictures x_lead x_round x_bestSet x_bestMany x_left xa_aside xa_last x_hasLived uA n_year tA uA_bo uA_st uA_se ulit umayor unight uoil uborn ustays useen tA_be tA_le tA_mo tA_rn tA_cn tA_bo tA_st Wd R thouses talways tnever nr nc tring tbeside tleast tmost trnames target self hT hmy H.size) (cwV 2 hts (lw_V q1159 q1161 qs44 q135 q1162) rfl rfl rfl hd_X0_fill ⟨(Nat.le_of_ble_eq_true rfl), (Nat.le_of_ble_eq_true rfl)⟩) hP hD hS hA hK hE 7 0 rfl rfl rfl hl.1 rfl (Nat.le_of_ble_eq_true rfl) dX0_least_3 ⟨Nat.le_refl _, Nat.le_refl _⟩ (fun t_1 ht_1 hft_1 H locs hP hD hS _ => ?_)
  refine W.eq (g2 := F0 m 6 ls []) rfl ?_
  refine lv_iconst (v := 1) hx hb dX0_least_6 (by decide) ?_
  refine lv_aload_n hx hb dX0_least_7 rfl (lv_at hl 0 rfl) ?_
  refine zr_obV ⟨hx, hb, hml, hown, hts⟩ (mt_xf_at l G xA xa_trays xa_tape x_taped x_faultKind x_faultAt xa_bad xa_refused x_status x_above x_under nA xa_marks x_markMany xa_pictures x_lead x_round xa_ways x_bestSet x_bestMany x_left xa_aside xa_last x_hasLived uA n_year tA uA_bo uA_st uA_se ulit umayor unight uoil uborn ustays useen tA_be tA_le tA_mo tA_rn tA_cn tA_bo tA_st Wd R thouses talways tnever nr nc tring tbeside tleast tmost trnames hT) (cwV 0 hts (lw_V q891 q893 qs28 q135 q894) rfl rfl rfl hd_X0_at ⟨(Nat.le_of_ble_eq_true rfl), (Nat.le_of_ble_eq_true rfl)⟩) (zP_sub hP (ws' := ((xA_ G xA xa_trays xa_tape x_taped x_faultKind x_faultAt xa_bad xa_refused x_status x_above x_under nA xa_marks x_markMany xa_pictures x_lead x_round xa_ways x_bestSet x_bestMany x_left xa_aside xa_last x_hasLived uA n_year) ++ (hW G uA tA uA_bo uA_st uA_se ulit umayor unight uoil uborn ustays useen) ++ (tW G tA tA_be tA_le tA_mo tA_rn tA_cn tA_bo tA_st (nI Wd) (nI R) thouses talways tnever (nI nr) (nI nc) tring tbeside tleast tmost trnames))) [7, 8, 9, 10, 11, 12, 13, 14, 15, 16, 17] rfl) hK (zE_o hE hS) 0 0 rfl rfl rfl hl.1 rfl (Nat.le_of_ble_eq_true rfl) dX0_least_8 ⟨Nat.le_refl _, Nat.le_refl _⟩ ?_
  refine va_getN (D := G.1) (ci := 6) (v := .int (nI Wd)) (C := RX6) (T := TX6) (N := 15) hx hb hts in_X6 hown hK.1 hP 13 rfl rfl 0 (Nat.le_of_ble_eq_true rfl) ((hK.2.1.1 _ (List.mem_of_getElem? (i := 4) rfl)).use rfl) (fun _ h => h) rfl dX0_least_11 ?_
  refine lv_ishl hx hb dX0_least_14 ?_
  refine zr_val (congrArg Value.int (zpw_e Wd (by omega))) ?_
  refine W.eq (g2 := F0 m 15 ls [.int (nI (zpw Wd))]) rfl ?_
  refine lv_istore_n (lv' := [(3, .int (nI (zpw Wd))), (0, .ref xA), (1, .int target), (2, .int (zb self))]) hx hb dX0_least_15 rfl hl (by decide) rfl (fun ls hl => ?_)
  refine lv_iconst (v := 0) hx hb dX0_least_16 (by decide) ?_
  refine lv_istore (lv' := [(4, .int 0), (3, .int (nI (zpw Wd))), (0, .ref xA), (1, .int target), (2, .int (zb self))]) hx hb dX0_least_17 hl (by decide) rfl (fun ls hl => ?_)
  refine lv_iconst (v := (-1)) hx hb dX0_least_19 (by decide) ?_
  refine lv_istore (lv' := [(5, .int (-1)), (4, .int 0), (3, .int (nI (zpw Wd))), (0, .ref xA), (1, .int target), (2, .int (zb self))]) hx hb dX0_least_20 hl (by decide) rfl (fun ls hl => ?_)
  refine lv_lconst (v := 0) hx hb dX0_least_22 rfl ?_
  refine lv_lstore (lv' := [(6, .long 0), (5, .int (-1)), (4, .int 0), (3, .int (nI (zpw Wd))), (0, .ref xA), (1, .int target), (2, .int (zb self))]) hx hb dX0_least_23 hl (by decide) rfl (fun ls hl => ?_)
  refine lv_aload_n hx hb dX0_least_25 rfl (lv_at hl 4 rfl) ?_
  refine zr_obV ⟨hx, hb, hml, hown, hts⟩ (mt_xf_at l G xA xa_trays xa_tape x_taped x_faultKind x_faultAt xa_bad xa_refused x_status x_above x_under nA xa_marks x_markMany xa_pictures x_lead x_round xa_ways x_bestSet x_bestMany x_left xa_aside xa_last x_hasLived uA n_year tA uA_bo uA_st uA_se ulit umayor unight uoil uborn ustays useen tA_be tA_le tA_mo tA_rn tA_cn tA_bo tA_st Wd R thouses talways tnever nr nc tring tbeside tleast tmost trnames hT) (cwV 0 hts (lw_V q891 q893 qs28 q135 q894) rfl rfl rfl hd_X0_at ⟨(Nat.le_of_ble_eq_true rfl), (Nat.le_of_ble_eq_true rfl)⟩) (zP_sub hP (ws' := ((xA_ G xA xa_trays xa_tape x_taped x_faultKind x_faultAt xa_bad xa_refused x_status x_above x_under nA xa_marks x_markMany xa_pictures x_lead x_round xa_ways x_bestSet x_bestMany x_left xa_aside xa_last x_hasLived uA n_year) ++ (hW G uA tA uA_bo uA_st uA_se ulit umayor unight uoil uborn ustays useen) ++ (tW G tA tA_be tA_le tA_mo tA_rn tA_cn tA_bo tA_st (nI Wd) (nI R) thouses talways tnever (nI nr) (nI nc) tring tbeside tleast tmost trnames))) [7, 8, 9, 10, 11, 12, 13, 14, 15, 16, 17] rfl) hK (zE_o hE hS) 0 0 rfl rfl rfl hl.1 rfl (Nat.le_of_ble_eq_true rfl) dX0_least_26 ⟨Nat.le_refl _, Nat.le_refl _⟩ ?_
  refine va_getN (D := G.1) (ci := 6) (v := .int (nI R)) (C := RX6) (T := TX6) (N := 15) hx hb hts in_X6 hown hK.1 hP 13 rfl rfl 1 (Nat.le_of_ble_eq_true rfl) ((hK.2.1.1 _ (List.mem_of_getElem? (i := 5) rfl)).use rfl) (fun _ h => h) rfl dX0_least_29 ?_
  refine lv_iconst (v := 1) hx hb dX0_least_32 (by decide) ?_
  refine lv_isub hx hb dX0_least_33 ?_
  refine lv_istore (lv' := [(8, .int (nI R - 1)), (6, .long 0), (5, .int (-1)), (4, .int 0), (3, .int (nI (zpw Wd))), (0, .ref xA), (1, .int target), (2, .int (zb self))]) hx hb dX0_least_34 hl (by decide) rfl (fun ls hl => ?_)
  have hx_2 : ∀ t_2 : Nat × Int64 × Int32 × Int32, xf_least_L36 umayor uborn ustays Wd R thouses talways tnever tring target self t_1 (R, 0, (-1), 0) = .inl t_2 → ∀ (H : Heap) (locs : List Loc), va_P G.1 zcl ((xS_ G xa_ways xwA t_1) ++ (xA_ G xA xa_trays xa_tape x_taped x_faultKind x_faultAt xa_bad xa_refused x_status x_above x_under nA xa_marks x_markMany xa_pictures x_lead x_round xa_ways x_bestSet x_bestMany x_left xa_aside xa_last x_hasLived uA n_year) ++ (hW G uA tA uA_bo uA_st uA_se ulit umayor unight uoil uborn ustays useen) ++ (tW G tA tA_be tA_le tA_mo tA_rn tA_cn tA_bo tA_st (nI Wd) (nI R) thouses talways tnever (nI nr) (nI nc) tring tbeside tleast tmost trnames)) H → va_D A ((xS_ G xa_ways xwA t_1) ++ (xA_ G xA xa_trays xa_tape x_taped x_faultKind x_faultAt xa_bad xa_refused x_status x_above x_under nA xa_marks x_markMany xa_pictures x_lead x_round xa_ways x_bestSet x_bestMany x_left xa_aside xa_last x_hasLived uA n_year) ++ (hW G uA tA uA_bo uA_st uA_se ulit umayor unight uoil uborn ustays useen) ++ (tW G tA tA_be tA_le tA_mo tA_rn tA_cn tA_bo tA_st (nI Wd) (nI R) thouses talways tnever (nI nr) (nI nc) tring tbeside tleast tmost trnames)) → va_S A s.heap H locs → ∀ ls : Array Slot, lv_has ls 13 [(6, .long t_2.2.1)] → W p l e (zR 5 0 0) s m ([.ref xA, .int target, .int (zb self)] : List Value).toArray below meth c H locs 0 0 (MQ below (zQm G (True) (some (.long ((xf_least xw umayor uborn ustays Wd R thouses talways tnever tring target self).1))) ((xS_ G xa_ways xwA ((xf_least xw umayor uborn ustays Wd R thouses talways tnever tring target self).2)) ++ (xA_ G xA xa_trays xa_tape x_taped x_faultKind x_faultAt xa_bad xa_refused x_status x_above x_under nA xa_marks x_markMany xa_pictures x_lead x_round xa_ways x_bestSet x_bestMany x_left xa_aside xa_last x_hasLived uA n_year) ++ (hW G uA tA uA_bo uA_st uA_se ulit umayor unight uoil uborn ustays useen) ++ (tW G tA tA_be tA_le tA_mo tA_rn tA_cn tA_bo tA_st (nI Wd) (nI R) thouses talways tnever (nI nr) (nI nc) tring tbeside tleast tmost trnames)) A) ([.ref xA, .int target, .int (zb self)] : List Value).toArray s 0 0 A) (F0 m 193 ls []) := by
    intro t_2 ht_2 H locs hP hD hS ls hl
    refine lv_lload hx hb dX0_least_193 (lv_at hl 0 rfl) ?_
    have e_ : xf_least xw umayor uborn ustays Wd R thouses talways tnever tring target self = (t_2.2.1, t_1) := by rw [xf_least, zlet_eq ht_1, zcase_l ht_2]
    exact zr_ml hx hb hr hlocks hP hD hS dX0_least_195 (by rw [e_])  (by rw [e_]) trivial
  have hlp_2 : ∀ (n : Nat) (s_2 : Nat × Int64 × Int32 × Int32), s_2.1 < n → zw (xf_least_B36 umayor uborn ustays Wd R thouses talways tnever tring target self t_1) (.inl (R, 0, (-1), 0)) n s_2 = xf_least_L36 umayor uborn ustays Wd R thouses talways tnever tring target self t_1 (R, 0, (-1), 0) → s_2.1 ≤ R → ∀ (H : Heap) (locs : List Loc), va_P G.1 zcl ((xS_ G xa_ways xwA t_1) ++ (xA_ G xA xa_trays xa_tape x_taped x_faultKind x_faultAt xa_bad xa_refused x_status x_above x_under nA xa_marks x_markMany xa_pictures x_lead x_round xa_ways x_bestSet x_bestMany x_left xa_aside xa_last x_hasLived uA n_year) ++ (hW G uA tA uA_bo uA_st uA_se ulit umayor unight uoil uborn ustays useen) ++ (tW G tA tA_be tA_le tA_mo tA_rn tA_cn tA_bo tA_st (nI Wd) (nI R) thouses talways tnever (nI nr) (nI nc) tring tbeside tleast tmost trnames)) H → va_D A ((xS_ G xa_ways xwA t_1) ++ (xA_ G xA xa_trays xa_tape x_taped x_faultKind x_faultAt xa_bad xa_refused x_status x_above x_under nA xa_marks x_markMany xa_pictures x_lead x_round xa_ways x_bestSet x_bestMany x_left xa_aside xa_last x_hasLived uA n_year) ++ (hW G uA tA uA_bo uA_st uA_se ulit umayor unight uoil uborn ustays useen) ++ (tW G tA tA_be tA_le tA_mo tA_rn tA_cn tA_bo tA_st (nI Wd) (nI R) thouses talways tnever (nI nr) (nI nc) tring tbeside tleast tmost trnames)) → va_S A s.heap H locs → ∀ ls : Array Slot, lv_has ls 13 [(8, .int (nI s_2.1 - 1)), (6, .long s_2.2.1), (5, .int s_2.2.2.1), (4, .int s_2.2.2.2), (3, .int (nI (zpw Wd))), (0, .ref xA), (1, .int target), (2, .int (zb self))] → W p l e (zR 5 0 0) s m ([.ref xA, .int target, .int (zb self)] : List Value).toArray below meth c H locs 0 0 (MQ below (zQm G (True) (some (.long ((xf_least xw umayor uborn ustays Wd R thouses talways tnever tring target self).1))) ((xS_ G xa_ways xwA ((xf_least xw umayor uborn ustays Wd R thouses talways tnever tring target self).2)) ++ (xA_ G xA xa_trays xa_tape x_taped x_faultKind x_faultAt xa_bad xa_refused x_status x_above x_under nA xa_marks x_markMany xa_pictures x_lead x_round xa_ways x_bestSet x_bestMany x_left xa_aside xa_last x_hasLived uA n_year) ++ (hW G uA tA uA_bo uA_st uA_se ulit umayor unight uoil uborn ustays useen) ++ (tW G tA tA_be tA_le tA_mo tA_rn tA_cn tA_bo tA_st (nI Wd) (nI R) thouses talways tnever (nI nr) (nI nc) tring tbeside tleast tmost trnames)) A) ([.ref xA, .int target, .int (zb self)] : List Value).toArray s 0 0 A) (F0 m 36 ls []) := by
    intro n
    induction n with
    | zero => exact fun _ h => absurd h (Nat.not_lt_zero _)
    | succ n ih_2 =>
      intro s_2 hmu_2 hR_2 hi8 H locs hP hD hS ls hl
      refine lv_iload hx hb dX0_least_36 (lv_at hl 0 rfl) ?_
      refine lv_if_lt (tgt := 193) hx hb dX0_least_38 (by decide) (fun c_3 => ?_) (fun c_3 => ?_)
      · exact hx_2 (s_2.1, s_2.2.1, s_2.2.2.1, s_2.2.2.2) (hR_2.symm.trans (zw_r (by rw [xf_least_B36, if_pos c_3]))) H locs hP hD hS ls (lv_sub hl [1] rfl)
      · have hj1 := z_aj _ (by omega) c_3
        have hl : lv_has ls 13 [(8, .int (nI (s_2.1 - 1))), (6, .long s_2.2.1), (5, .int s_2.2.2.1), (4, .int s_2.2.2.2), (3, .int (nI (zpw Wd))), (0, .ref xA), (1, .int target), (2, .int (zb self))] := by rw [← (pk_sub (show 1 ≤ s_2.1 from hj1) : nI s_2.1 - 1 = nI (s_2.1 - 1))]; exact hl
        refine lv_iconst (v := (-1)) hx hb dX0_least_41 (by decide) ?_
        refine lv_istore (lv' := [(9, .int (-1)), (8, .int (nI (s_2.1 - 1))), (6, .long s_2.2.1), (5, .int s_2.2.2.1), (4, .int s_2.2.2.2), (3, .int (nI (zpw Wd))), (0, .ref xA), (1, .int target), (2, .int (zb self))]) hx hb dX0_least_42 hl (by decide) rfl (fun ls hl => ?_)
        refine lv_iconst (v := (-1)) hx hb dX0_least_44 (by decide) ?_
        refine lv_istore (lv' := [(10, .int (-1)), (9, .int (-1)), (8, .int (nI (s_2.1 - 1))), (6, .long s_2.2.1), (5, .int s_2.2.2.1), (4, .int s_2.2.2.2), (3, .int (nI (zpw Wd))), (0, .ref xA), (1, .int target), (2, .int (zb self))]) hx hb dX0_least_45 hl (by decide) rfl (fun ls hl => ?_)
        refine lv_iconst (v := 0) hx hb dX0_least_47 (by decide) ?_
        refine lv_istore (lv' := [(11, .int 0), (10, .int (-1)), (9, .int (-1)), (8, .int (nI (s_2.1 - 1))), (6, .long s_2.2.1), (5, .int s_2.2.2.1), (4, .int s_2.2.2.2), (3, .int (nI (zpw Wd))), (0, .ref xA), (1, .int target), (2, .int (zb self))]) hx hb dX0_least_48 hl (by decide) rfl (fun ls hl => ?_)
        have hx_4 : ∀ t_4 : Nat × Int32 × Int32, xf_least_L50 umayor uborn ustays Wd thouses talways tnever tring target self t_1 s_2 (0, (-1), (-1)) = t_4 → ∀ (H : Heap) (locs : List Loc), va_P G.1 zcl ((xS_ G xa_ways xwA t_1) ++ (xA_ G xA xa_trays xa_tape x_taped x_faultKind x_faultAt xa_bad xa_refused x_status x_above x_under nA xa_marks x_markMany xa_pictures x_lead x_round xa_ways x_bestSet x_bestMany x_left xa_aside xa_last x_hasLived uA n_year) ++ (hW G uA tA uA_bo uA_st uA_se ulit umayor unight uoil uborn ustays useen) ++ (tW G tA tA_be tA_le tA_mo tA_rn tA_cn tA_bo tA_st (nI Wd) (nI R) thouses talways tnever (nI nr) (nI nc) tring tbeside tleast tmost trnames)) H → va_D A ((xS_ G xa_ways xwA t_1) ++ (xA_ G xA xa_trays xa_tape x_taped x_faultKind x_faultAt xa_bad xa_refused x_status x_above x_under nA xa_marks x_markMany xa_pictures x_lead x_round xa_ways x_bestSet x_bestMany x_left xa_aside xa_last x_hasLived uA n_year) ++ (hW G uA tA uA_bo uA_st uA_se ulit umayor unight uoil uborn ustays useen) ++ (tW G tA tA_be tA_le tA_mo tA_rn tA_cn tA_bo tA_st (nI Wd) (nI R) thouses talways tnever (nI nr) (nI nc) tring tbeside tleast tmost trnames)) → va_S A s.heap H locs → ∀ ls : Array Slot, lv_has ls 13 [(10, .int t_4.2.1), (9, .int t_4.2.2), (8, .int (nI (s_2.1 - 1))), (6, .long s_2.2.1), (3, .int (nI (zpw Wd))), (0, .ref xA), (1, .int target), (2, .int (zb self))] → W p l e (zR 5 0 0) s m ([.ref xA, .int target, .int (zb self)] : List Value).toArray below meth c H locs 0 0 (MQ below (zQm G (True) (some (.long ((xf_least xw umayor uborn ustays Wd R thouses talways tnever tring target self).1))) ((xS_ G xa_ways xwA ((xf_least xw umayor uborn ustays Wd R thouses talways tnever tring target self).2)) ++ (xA_ G xA xa_trays xa_tape x_taped x_faultKind x_faultAt xa_bad xa_refused x_status x_above x_under nA xa_marks x_markMany xa_pictures x_lead x_round xa_ways x_bestSet x_bestMany x_left xa_aside xa_last x_hasLived uA n_year) ++ (hW G uA tA uA_bo uA_st uA_se ulit umayor unight uoil uborn ustays useen) ++ (tW G tA tA_be tA_le tA_mo tA_rn tA_cn tA_bo tA_st (nI Wd) (nI R) thouses talways tnever (nI nr) (nI nc) tring tbeside tleast tmost trnames)) A) ([.ref xA, .int target, .int (zb self)] : List Value).toArray s 0 0 A) (F0 m 151 ls []) := by
          intro t_4 ht_4 H locs hP hD hS ls hl
          refine lv_iload hx hb dX0_least_151 (lv_at hl 1 rfl) ?_
          refine lv_if_ge (tgt := 160) hx hb dX0_least_153 (by decide) (fun c_19 => ?_) (fun c_19 => ?_)
          · refine lv_lload hx hb dX0_least_160 (lv_at hl 3 rfl) ?_
            refine lv_iload hx hb dX0_least_162 (lv_at hl 1 rfl) ?_
            refine lv_i2l hx hb dX0_least_164 rfl ?_
            refine lv_aload_n hx hb dX0_least_165 rfl (lv_at hl 5 rfl) ?_
            refine zr_obV ⟨hx, hb, hml, hown, hts⟩ (mt_xf_at l G xA xa_trays xa_tape x_taped x_faultKind x_faultAt xa_bad xa_refused x_status x_above x_under nA xa_marks x_markMany xa_pictures x_lead x_round xa_ways x_bestSet x_bestMany x_left xa_aside xa_last x_hasLived uA n_year tA uA_bo uA_st uA_se ulit umayor unight uoil uborn ustays useen tA_be tA_le tA_mo tA_rn tA_cn tA_bo tA_st Wd R thouses talways tnever nr nc tring tbeside tleast tmost trnames hT) (cwV 0 hts (lw_V q891 q893 qs28 q135 q894) rfl rfl rfl hd_X0_at ⟨(Nat.le_of_ble_eq_true rfl), (Nat.le_of_ble_eq_true rfl)⟩) (zP_sub hP (ws' := ((xA_ G xA xa_trays xa_tape x_taped x_faultKind x_faultAt xa_bad xa_refused x_status x_above x_under nA xa_marks x_markMany xa_pictures x_lead x_round xa_ways x_bestSet x_bestMany x_left xa_aside xa_last x_hasLived uA n_year) ++ (hW G uA tA uA_bo uA_st uA_se ulit umayor unight uoil uborn ustays useen) ++ (tW G tA tA_be tA_le tA_mo tA_rn tA_cn tA_bo tA_st (nI Wd) (nI R) thouses talways tnever (nI nr) (nI nc) tring tbeside tleast tmost trnames))) [7, 8, 9, 10, 11, 12, 13, 14, 15, 16, 17] rfl) hK (zE_o hE hS) 0 0 rfl rfl rfl hl.1 rfl (Nat.le_of_ble_eq_true rfl) dX0_least_166 ⟨Nat.le_refl _, Nat.le_refl _⟩ ?_
            refine va_getN (D := G.1) (ci := 6) (v := .int (nI Wd)) (C := RX6) (T := TX6) (N := 15) hx hb hts in_X6 hown hK.1 hP 13 rfl rfl 0 (Nat.le_of_ble_eq_true rfl) ((hK.2.1.1 _ (List.mem_of_getElem? (i := 4) rfl)).use rfl) (fun _ h => h) rfl dX0_least_169 ?_
            refine lv_iload hx hb dX0_least_172 (lv_at hl 2 rfl) ?_
            refine zr_imulN Wd (s_2.1 - 1) hx hb dX0_least_174 ?_
            refine lv_lshl hx hb dX0_least_175 rfl ?_
            refine lv_lor hx hb dX0_least_176 ?_
            refine lv_lstore (lv' := [(6, .long (s_2.2.1 ||| (t_4.2.2.toInt64 <<< ((nI (Wd * (s_2.1 - 1))).toInt64 &&& 63)))), (10, .int t_4.2.1), (9, .int t_4.2.2), (8, .int (nI (s_2.1 - 1))), (3, .int (nI (zpw Wd))), (0, .ref xA), (1, .int target), (2, .int (zb self))]) hx hb dX0_least_177 hl (by decide) rfl (fun ls hl => ?_)
            refine lv_iload hx hb dX0_least_179 (lv_at hl 2 rfl) ?_
            refine lv_istore (lv' := [(4, .int t_4.2.2), (6, .long (s_2.2.1 ||| (t_4.2.2.toInt64 <<< ((nI (Wd * (s_2.1 - 1))).toInt64 &&& 63)))), (10, .int t_4.2.1), (9, .int t_4.2.2), (8, .int (nI (s_2.1 - 1))), (3, .int (nI (zpw Wd))), (0, .ref xA), (1, .int target), (2, .int (zb self))]) hx hb dX0_least_181 hl (by decide) rfl (fun ls hl => ?_)
            refine lv_iload hx hb dX0_least_183 (lv_at hl 2 rfl) ?_
            refine lv_istore (lv' := [(5, .int t_4.2.1), (4, .int t_4.2.2), (6, .long (s_2.2.1 ||| (t_4.2.2.toInt64 <<< ((nI (Wd * (s_2.1 - 1))).toInt64 &&& 63)))), (10, .int t_4.2.1), (9, .int t_4.2.2), (8, .int (nI (s_2.1 - 1))), (3, .int (nI (zpw Wd))), (0, .ref xA), (1, .int target), (2, .int (zb self))]) hx hb dX0_least_185 hl (by decide) rfl (fun ls hl => ?_)
            refine lv_iinc (v := nI (s_2.1 - 1) - 1) (lv' := [(8, .int (nI (s_2.1 - 1) - 1)), (5, .int t_4.2.1), (4, .int t_4.2.2), (6, .long (s_2.2.1 ||| (t_4.2.2.toInt64 <<< ((nI (Wd * (s_2.1 - 1))).toInt64 &&& 63)))), (10, .int t_4.2.1), (9, .int t_4.2.2), (3, .int (nI (zpw Wd))), (0, .ref xA), (1, .int target), (2, .int (zb self))]) hx hb dX0_least_187 hl (k := 5) rfl (z_affm (s_2.1 - 1)) (by decide) rfl (fun ls hl => ?_)
            refine lv_goto (tgt := 36) hx hb dX0_least_190 (by decide) ?_
            exact ih_2 (s_2.1 - 1, s_2.2.1 ||| (t_4.2.2.toInt64 <<< ((nI (Wd * (s_2.1 - 1))).toInt64 &&& 63)), t_4.2.1, t_4.2.2) (by omega) ((zw_l (by rw [xf_least_B36, if_neg c_3, zlet_eq ht_4, if_pos c_19])).symm.trans hR_2) (by omega) H locs hP hD hS ls (lv_sub hl [0, 3, 1, 2, 6, 7, 8, 9] rfl)
          · refine lv_ldc2 (v := (-1)) hx hb hown (hts _ q597) dX0_least_156 ?_
            have hr_2 : xf_least_L36 umayor uborn ustays Wd R thouses talways tnever tring target self t_1 (R, 0, (-1), 0) = .inr ((-1), t_1) := hR_2.symm.trans (zw_r (by rw [xf_least_B36, if_neg c_3, zlet_eq ht_4, if_neg c_19]))
            have e_ : xf_least xw umayor uborn ustays Wd R thouses talways tnever tring target self = ((-1), t_1) := by rw [xf_least, zlet_eq ht_1, zcase_r hr_2]
            exact zr_ml hx hb hr hlocks hP hD hS dX0_least_159 (by rw [e_])  (by rw [e_]) trivial
        have hlp_4 : ∀ (n : Nat) (s_4 : Nat × Int32 × Int32), zpw Wd - s_4.1 < n → zw (xf_least_B50 umayor uborn ustays Wd thouses talways tnever tring target self t_1 s_2) (0, (-1), (-1)) n s_4 = xf_least_L50 umayor uborn ustays Wd thouses talways tnever tring target self t_1 s_2 (0, (-1), (-1)) → s_4.1 ≤ zpw Wd → ∀ (H : Heap) (locs : List Loc), va_P G.1 zcl ((xS_ G xa_ways xwA t_1) ++ (xA_ G xA xa_trays xa_tape x_taped x_faultKind x_faultAt xa_bad xa_refused x_status x_above x_under nA xa_marks x_markMany xa_pictures x_lead x_round xa_ways x_bestSet x_bestMany x_left xa_aside xa_last x_hasLived uA n_year) ++ (hW G uA tA uA_bo uA_st uA_se ulit umayor unight uoil uborn ustays useen) ++ (tW G tA tA_be tA_le tA_mo tA_rn tA_cn tA_bo tA_st (nI Wd) (nI R) thouses talways tnever (nI nr) (nI nc) tring tbeside tleast tmost trnames)) H → va_D A ((xS_ G xa_ways xwA t_1) ++ (xA_ G xA xa_trays xa_tape x_taped x_faultKind x_faultAt xa_bad xa_refused x_status x_above x_under nA xa_marks x_markMany xa_pictures x_lead x_round xa_ways x_bestSet x_bestMany x_left xa_aside xa_last x_hasLived uA n_year) ++ (hW G uA tA uA_bo uA_st uA_se ulit umayor unight uoil uborn ustays useen) ++ (tW G tA tA_be tA_le tA_mo tA_rn tA_cn tA_bo tA_st (nI Wd) (nI R) thouses talways tnever (nI nr) (nI nc) tring tbeside tleast tmost trnames)) → va_S A s.heap H locs → ∀ ls : Array Slot, lv_has ls 13 [(11, .int (nI s_4.1)), (10, .int s_4.2.1), (9, .int s_4.2.2), (8, .int (nI (s_2.1 - 1))), (6, .long s_2.2.1), (5, .int s_2.2.2.1), (4, .int s_2.2.2.2), (3, .int (nI (zpw Wd))), (0, .ref xA), (1, .int target), (2, .int (zb self))] → W p l e (zR 5 0 0) s m ([.ref xA, .int target, .int (zb self)] : List Value).toArray below meth c H locs 0 0 (MQ below (zQm G (True) (some (.long ((xf_least xw umayor uborn ustays Wd R thouses talways tnever tring target self).1))) ((xS_ G xa_ways xwA ((xf_least xw umayor uborn ustays Wd R thouses talways tnever tring target self).2)) ++ (xA_ G xA xa_trays xa_tape x_taped x_faultKind x_faultAt xa_bad xa_refused x_status x_above x_under nA xa_marks x_markMany xa_pictures x_lead x_round xa_ways x_bestSet x_bestMany x_left xa_aside xa_last x_hasLived uA n_year) ++ (hW G uA tA uA_bo uA_st uA_se ulit umayor unight uoil uborn ustays useen) ++ (tW G tA tA_be tA_le tA_mo tA_rn tA_cn tA_bo tA_st (nI Wd) (nI R) thouses talways tnever (nI nr) (nI nc) tring tbeside tleast tmost trnames)) A) ([.ref xA, .int target, .int (zb self)] : List Value).toArray s 0 0 A) (F0 m 50 ls []) := by
          intro n
          induction n with
          | zero => exact fun _ h => absurd h (Nat.not_lt_zero _)
          | succ n ih_4 =>
            intro s_4 hmu_4 hR_4 hi11 H locs hP hD hS ls hl
            refine lv_iload hx hb dX0_least_50 (lv_at hl 0 rfl) ?_
            refine lv_iload_n hx hb dX0_least_52 rfl (lv_at hl 7 rfl) ?_
            refine zr_ge s_4.1 (zpw Wd) (by omega) (by omega) (tgt := 151) hx hb dX0_least_53 (by decide) (fun c_5 => ?_) (fun c_5 => ?_)
            · exact hx_4 (s_4.1, s_4.2.1, s_4.2.2) (hR_4.symm.trans (zw_r (by rw [xf_least_B50, if_pos c_5]))) H locs hP hD hS ls (lv_sub hl [1, 2, 3, 4, 7, 8, 9, 10] rfl)
            · refine lv_iload hx hb dX0_least_56 (lv_at hl 2 rfl) ?_
              refine lv_if_ge (tgt := 151) hx hb dX0_least_58 (by decide) (fun c_6 => ?_) (fun c_6 => ?_)
              · exact hx_4 (s_4.1, s_4.2.1, s_4.2.2) (hR_4.symm.trans (zw_r (by rw [xf_least_B50, if_neg c_5, if_pos c_6]))) H locs hP hD hS ls (lv_sub hl [1, 2, 3, 4, 7, 8, 9, 10] rfl)
              · refine lv_iload hx hb dX0_least_61 (lv_at hl 5 rfl) ?_
                refine lv_if_lt (tgt := 76) hx hb dX0_least_63 (by decide) (fun c_7 => ?_) (fun c_7 => ?_)
                · refine lv_iconst (v := 0) hx hb dX0_least_76 (by decide) ?_
                  refine lv_istore (lv' := [(12, .int 0), (11, .int (nI s_4.1)), (10, .int s_4.2.1), (9, .int s_4.2.2), (8, .int (nI (s_2.1 - 1))), (6, .long s_2.2.1), (5, .int s_2.2.2.1), (4, .int s_2.2.2.2), (3, .int (nI (zpw Wd))), (0, .ref xA), (1, .int target), (2, .int (zb self))]) hx hb dX0_least_77 hl (by decide) rfl (fun ls hl => ?_)
                  have hx_8 : ∀ t_8 : Nat × Int32 × Int32, xf_least_L79 umayor uborn ustays Wd thouses talways tnever tring target self t_1 s_2 s_4 (0, s_4.2.1, s_4.2.2) = t_8 → ∀ (H : Heap) (locs : List Loc), va_P G.1 zcl ((xS_ G xa_ways xwA t_1) ++ (xA_ G xA xa_trays xa_tape x_taped x_faultKind x_faultAt xa_bad xa_refused x_status x_above x_under nA xa_marks x_markMany xa_pictures x_lead x_round xa_ways x_bestSet x_bestMany x_left xa_aside xa_last x_hasLived uA n_year) ++ (hW G uA tA uA_bo uA_st uA_se ulit umayor unight uoil uborn ustays useen) ++ (tW G tA tA_be tA_le tA_mo tA_rn tA_cn tA_bo tA_st (nI Wd) (nI R) thouses talways tnever (nI nr) (nI nc) tring tbeside tleast tmost trnames)) H → va_D A ((xS_ G xa_ways xwA t_1) ++ (xA_ G xA xa_trays xa_tape x_taped x_faultKind x_faultAt xa_bad xa_refused x_status x_above x_under nA xa_marks x_markMany xa_pictures x_lead x_round xa_ways x_bestSet x_bestMany x_left xa_aside xa_last x_hasLived uA n_year) ++ (hW G uA tA uA_bo uA_st uA_se ulit umayor unight uoil uborn ustays useen) ++ (tW G tA tA_be tA_le tA_mo tA_rn tA_cn tA_bo tA_st (nI Wd) (nI R) thouses talways tnever (nI nr) (nI nc) tring tbeside tleast tmost trnames)) → va_S A s.heap H locs → ∀ ls : Array Slot, lv_has ls 13 [(11, .int (nI s_4.1)), (10, .int t_8.2.1), (9, .int t_8.2.2), (8, .int (nI (s_2.1 - 1))), (6, .long s_2.2.1), (5, .int s_2.2.2.1), (4, .int s_2.2.2.2), (3, .int (nI (zpw Wd))), (0, .ref xA), (1, .int target), (2, .int (zb self))] → W p l e (zR 5 0 0) s m ([.ref xA, .int target, .int (zb self)] : List Value).toArray below meth c H locs 0 0 (MQ below (zQm G (True) (some (.long ((xf_least xw umayor uborn ustays Wd R thouses talways tnever tring target self).1))) ((xS_ G xa_ways xwA ((xf_least xw umayor uborn ustays Wd R thouses talways tnever tring target self).2)) ++ (xA_ G xA xa_trays xa_tape x_taped x_faultKind x_faultAt xa_bad xa_refused x_status x_above x_under nA xa_marks x_markMany xa_pictures x_lead x_round xa_ways x_bestSet x_bestMany x_left xa_aside xa_last x_hasLived uA n_year) ++ (hW G uA tA uA_bo uA_st uA_se ulit umayor unight uoil uborn ustays useen) ++ (tW G tA tA_be tA_le tA_mo tA_rn tA_cn tA_bo tA_st (nI Wd) (nI R) thouses talways tnever (nI nr) (nI nc) tring tbeside tleast tmost trnames)) A) ([.ref xA, .int target, .int (zb self)] : List Value).toArray s 0 0 A) (F0 m 145 ls []) := by
                    intro t_8 ht_8 H locs hP hD hS ls hl
                    refine lv_iinc (v := nI (s_4.1 + 1)) (lv' := [(11, .int (nI (s_4.1 + 1))), (10, .int t_8.2.1), (9, .int t_8.2.2), (8, .int (nI (s_2.1 - 1))), (6, .long s_2.2.1), (5, .int s_2.2.2.1), (4, .int s_2.2.2.2), (3, .int (nI (zpw Wd))), (0, .ref xA), (1, .int target), (2, .int (zb self))]) hx hb dX0_least_145 hl (k := 0) rfl (nI_add s_4.1 1) (by decide) rfl (fun ls hl => ?_)
                    refine lv_goto (tgt := 50) hx hb dX0_least_148 (by decide) ?_
                    exact ih_4 (s_4.1 + 1, t_8.2.1, t_8.2.2) (by omega) ((zw_l (by rw [xf_least_B50, if_neg c_5, if_neg c_6, if_pos c_7, zlet_eq ht_8])).symm.trans hR_4) (by omega) H locs hP hD hS ls (lv_sub hl [0, 1, 2, 3, 4, 5, 6, 7, 8, 9, 10] rfl)
                  have hlp_8 : ∀ (n : Nat) (s_8 : Nat × Int32 × Int32), zpw Wd - s_8.1 < n → zw (xf_least_B79 umayor uborn ustays Wd thouses talways tnever tring target self t_1 s_2 s_4) (0, s_4.2.1, s_4.2.2) n s_8 = xf_least_L79 umayor uborn ustays Wd thouses talways tnever tring target self t_1 s_2 s_4 (0, s_4.2.1, s_4.2.2) → s_8.1 ≤ zpw Wd → ∀ (H : Heap) (locs : List Loc), va_P G.1 zcl ((xS_ G xa_ways xwA t_1) ++ (xA_ G xA xa_trays xa_tape x_taped x_faultKind x_faultAt xa_bad xa_refused x_status x_above x_under nA xa_marks x_markMany xa_pictures x_lead x_round xa_ways x_bestSet x_bestMany x_left xa_aside xa_last x_hasLived uA n_year) ++ (hW G uA tA uA_bo uA_st uA_se ulit umayor unight uoil uborn ustays useen) ++ (tW G tA tA_be tA_le tA_mo tA_rn tA_cn tA_bo tA_st (nI Wd) (nI R) thouses talways tnever (nI nr) (nI nc) tring tbeside tleast tmost trnames)) H → va_D A ((xS_ G xa_ways xwA t_1) ++ (xA_ G xA xa_trays xa_tape x_taped x_faultKind x_faultAt xa_bad xa_refused x_status x_above x_under nA xa_marks x_markMany xa_pictures x_lead x_round xa_ways x_bestSet x_bestMany x_left xa_aside xa_last x_hasLived uA n_year) ++ (hW G uA tA uA_bo uA_st uA_se ulit umayor unight uoil uborn ustays useen) ++ (tW G tA tA_be tA_le tA_mo tA_rn tA_cn tA_bo tA_st (nI Wd) (nI R) thouses talways tnever (nI nr) (nI nc) tring tbeside tleast tmost trnames)) → va_S A s.heap H locs → ∀ ls : Array Slot, lv_has ls 13 [(12, .int (nI s_8.1)), (11, .int (nI s_4.1)), (10, .int s_8.2.1), (9, .int s_8.2.2), (8, .int (nI (s_2.1 - 1))), (6, .long s_2.2.1), (5, .int s_2.2.2.1), (4, .int s_2.2.2.2), (3, .int (nI (zpw Wd))), (0, .ref xA), (1, .int target), (2, .int (zb self))] → W p l e (zR 5 0 0) s m ([.ref xA, .int target, .int (zb self)] : List Value).toArray below meth c H locs 0 0 (MQ below (zQm G (True) (some (.long ((xf_least xw umayor uborn ustays Wd R thouses talways tnever tring target self).1))) ((xS_ G xa_ways xwA ((xf_least xw umayor uborn ustays Wd R thouses talways tnever tring target self).2)) ++ (xA_ G xA xa_trays xa_tape x_taped x_faultKind x_faultAt xa_bad xa_refused x_status x_above x_under nA xa_marks x_markMany xa_pictures x_lead x_round xa_ways x_bestSet x_bestMany x_left xa_aside xa_last x_hasLived uA n_year) ++ (hW G uA tA uA_bo uA_st uA_se ulit umayor unight uoil uborn ustays useen) ++ (tW G tA tA_be tA_le tA_mo tA_rn tA_cn tA_bo tA_st (nI Wd) (nI R) thouses talways tnever (nI nr) (nI nc) tring tbeside tleast tmost trnames)) A) ([.ref xA, .int target, .int (zb self)] : List Value).toArray s 0 0 A) (F0 m 79 ls []) := by
                    intro n
                    induction n with
                    | zero => exact fun _ h => absurd h (Nat.not_lt_zero _)
                    | succ n ih_8 =>
                      intro s_8 hmu_8 hR_8 hi12 H locs hP hD hS ls hl
                      refine lv_iload hx hb dX0_least_79 (lv_at hl 0 rfl) ?_
                      refine lv_iload_n hx hb dX0_least_81 rfl (lv_at hl 8 rfl) ?_
                      refine zr_ge s_8.1 (zpw Wd) (by omega) (by omega) (tgt := 145) hx hb dX0_least_82 (by decide) (fun c_9 => ?_) (fun c_9 => ?_)
                      · exact hx_8 (s_8.1, s_8.2.1, s_8.2.2) (hR_8.symm.trans (zw_r (by rw [xf_least_B79, if_pos c_9]))) H locs hP hD hS ls (lv_sub hl [1, 2, 3, 4, 5, 6, 7, 8, 9, 10, 11] rfl)
                      · refine lv_iload hx hb dX0_least_85 (lv_at hl 3 rfl) ?_
                        refine lv_if_ge (tgt := 145) hx hb dX0_least_87 (by decide) (fun c_10 => ?_) (fun c_10 => ?_)
                        · exact hx_8 (s_8.1, s_8.2.1, s_8.2.2) (hR_8.symm.trans (zw_r (by rw [xf_least_B79, if_neg c_9, if_pos c_10]))) H locs hP hD hS ls (lv_sub hl [1, 2, 3, 4, 5, 6, 7, 8, 9, 10, 11] rfl)
                        · refine lv_aload_n hx hb dX0_least_90 rfl (lv_at hl 9 rfl) ?_
                          refine va_get (D := G.1) (ci := 0) (v := .ref xa_ways) (C := RX0) (T := TX0) (N := 23) hx hb hts in_X0 hown hK.1 hP 7 rfl rfl 16 (Nat.le_of_ble_eq_true rfl) (hts _ q441) (fun _ h => h) rfl dX0_least_91 ?_
                          refine lv_iload hx hb dX0_least_94 (lv_at hl 4 rfl) ?_
                          refine zr_aaldL (s_2.1 - 1) hx hb hK hP 0 rfl rfl (Nat.le_of_ble_eq_true rfl) rfl (by omega) rfl dX0_least_96 ?_
                          refine lv_bipush (v := 32) hx hb dX0_least_97 (by decide) ?_
                          refine lv_iload hx hb dX0_least_99 (lv_at hl 0 rfl) ?_
                          refine zr_imulN 32 s_8.1 hx hb dX0_least_101 ?_
                          refine lv_iload hx hb dX0_least_102 (lv_at hl 1 rfl) ?_
                          refine zr_iaddN (32 * s_8.1) s_4.1 hx hb dX0_least_104 ?_
                          refine zr_val (v' := .int (nI (32 * s_8.1 + s_4.1))) (by rfl) ?_
                          refine zr_lald (32 * s_8.1 + s_4.1) (v := t_1 (s_2.1 - 1) (32 * s_8.1 + s_4.1)) hx hb hK hP (1 + (s_2.1 - 1)) (zget4 (xS_get _ _ _ _ (s_2.1 - 1) (by omega))) rfl (Nat.le_of_ble_eq_true rfl) rfl (by omega) rfl dX0_least_105 ?_
                          refine lv_lconst (v := 0) hx hb dX0_least_106 rfl ?_
                          refine W.lcmp hx hb dX0_least_107 ?_
                          refine zr_leq (tgt := 139) hx hb dX0_least_108 (by decide) (fun c_11 => ?_) (fun c_11 => ?_)
                          · refine lv_iinc (v := nI (s_8.1 + 1)) (lv' := [(12, .int (nI (s_8.1 + 1))), (11, .int (nI s_4.1)), (10, .int s_8.2.1), (9, .int s_8.2.2), (8, .int (nI (s_2.1 - 1))), (6, .long s_2.2.1), (5, .int s_2.2.2.1), (4, .int s_2.2.2.2), (3, .int (nI (zpw Wd))), (0, .ref xA), (1, .int target), (2, .int (zb self))]) hx hb dX0_least_139 hl (k := 0) rfl (nI_add s_8.1 1) (by decide) rfl (fun ls hl => ?_)
                            refine lv_goto (tgt := 79) hx hb dX0_least_142 (by decide) ?_
                            exact ih_8 (s_8.1 + 1, s_8.2.1, s_8.2.2) (by omega) ((zw_l (by rw [xf_least_B79, if_neg c_9, if_neg c_10, if_pos c_11])).symm.trans hR_8) (by omega) H locs hP hD hS ls (lv_sub hl [0, 1, 2, 3, 4, 5, 6, 7, 8, 9, 10, 11] rfl)
                          · refine lv_aload_n hx hb dX0_least_111 rfl (lv_at hl 9 rfl) ?_
                            refine lv_iload hx hb dX0_least_112 (lv_at hl 4 rfl) ?_
                            refine lv_iload hx hb dX0_least_114 (lv_at hl 0 rfl) ?_
                            refine lv_iload hx hb dX0_least_116 (lv_at hl 1 rfl) ?_
                            refine lv_iload hx hb dX0_least_118 (lv_at hl 7 rfl) ?_
                            refine lv_iload_n hx hb dX0_least_120 rfl (lv_at hl 10 rfl) ?_
                            refine lv_iload_n hx hb dX0_least_121 rfl (lv_at hl 11 rfl) ?_
                            refine zr_obV ⟨hx, hb, hml, hown, hts⟩ (mt_xf_fits6 l G xA xa_trays xa_tape x_taped x_faultKind x_faultAt xa_bad xa_refused x_status x_above x_under nA xa_marks x_markMany xa_pictures x_lead x_round xa_ways x_bestSet x_bestMany x_left xa_aside xa_last x_hasLived uA n_year tA uA_bo uA_st uA_se ulit umayor unight uoil uborn ustays useen tA_be tA_le tA_mo tA_rn tA_cn tA_bo tA_st Wd R thouses talways tnever nr nc tring tbeside tleast tmost trnames (nI (s_2.1 - 1)) (nI s_8.1) (nI s_4.1) s_2.2.2.2 target self hT hmy) (cwV 6 hts (lw_V q1167 q1169 qs46 q135 q1170) rfl rfl rfl hd_X0_fits ⟨(Nat.le_of_ble_eq_true rfl), (Nat.le_of_ble_eq_true rfl)⟩) (zP_sub hP (ws' := ((xA_ G xA xa_trays xa_tape x_taped x_faultKind x_faultAt xa_bad xa_refused x_status x_above x_under nA xa_marks x_markMany xa_pictures x_lead x_round xa_ways x_bestSet x_bestMany x_left xa_aside xa_last x_hasLived uA n_year) ++ (hW G uA tA uA_bo uA_st uA_se ulit umayor unight uoil uborn ustays useen) ++ (tW G tA tA_be tA_le tA_mo tA_rn tA_cn tA_bo tA_st (nI Wd) (nI R) thouses talways tnever (nI nr) (nI nc) tring tbeside tleast tmost trnames))) [7, 8, 9, 10, 11, 12, 13, 14, 15, 16, 17] rfl) hK (zE_o hE hS) 0 0 rfl rfl rfl hl.1 rfl (Nat.le_of_ble_eq_true rfl) dX0_least_122 ⟨Nat.le_refl _, Nat.le_refl _⟩ ?_
                            refine zr_neB (xf_fits6 umayor uborn ustays Wd thouses talways tnever tring (nI (s_2.1 - 1)) (nI s_8.1) (nI s_4.1) s_2.2.2.2 target self) (tgt := 131) hx hb dX0_least_125 (by decide) (fun c_12 => ?_) (fun c_12 => ?_)
                            · refine lv_iload hx hb dX0_least_131 (lv_at hl 1 rfl) ?_
                              refine lv_istore (lv' := [(9, .int (nI s_4.1)), (12, .int (nI s_8.1)), (11, .int (nI s_4.1)), (10, .int s_8.2.1), (8, .int (nI (s_2.1 - 1))), (6, .long s_2.2.1), (5, .int s_2.2.2.1), (4, .int s_2.2.2.2), (3, .int (nI (zpw Wd))), (0, .ref xA), (1, .int target), (2, .int (zb self))]) hx hb dX0_least_133 hl (by decide) rfl (fun ls hl => ?_)
                              refine lv_iload hx hb dX0_least_135 (lv_at hl 1 rfl) ?_
                              refine lv_istore (lv' := [(10, .int (nI s_8.1)), (9, .int (nI s_4.1)), (12, .int (nI s_8.1)), (11, .int (nI s_4.1)), (8, .int (nI (s_2.1 - 1))), (6, .long s_2.2.1), (5, .int s_2.2.2.1), (4, .int s_2.2.2.2), (3, .int (nI (zpw Wd))), (0, .ref xA), (1, .int target), (2, .int (zb self))]) hx hb dX0_least_137 hl (by decide) rfl (fun ls hl => ?_)
                              refine lv_iinc (v := nI (s_8.1 + 1)) (lv' := [(12, .int (nI (s_8.1 + 1))), (10, .int (nI s_8.1)), (9, .int (nI s_4.1)), (11, .int (nI s_4.1)), (8, .int (nI (s_2.1 - 1))), (6, .long s_2.2.1), (5, .int s_2.2.2.1), (4, .int s_2.2.2.2), (3, .int (nI (zpw Wd))), (0, .ref xA), (1, .int target), (2, .int (zb self))]) hx hb dX0_least_139 hl (k := 2) rfl (nI_add s_8.1 1) (by decide) rfl (fun ls hl => ?_)
                              refine lv_goto (tgt := 79) hx hb dX0_least_142 (by decide) ?_
                              exact ih_8 (s_8.1 + 1, nI s_8.1, nI s_4.1) (by omega) ((zw_l (by rw [xf_least_B79, if_neg c_9, if_neg c_10, if_neg c_11, if_pos c_12])).symm.trans hR_8) (by omega) H locs hP hD hS ls (lv_sub hl [0, 3, 1, 2, 4, 5, 6, 7, 8, 9, 10, 11] rfl)
                            · refine lv_goto (tgt := 139) hx hb dX0_least_128 (by decide) ?_
                              refine lv_iinc (v := nI (s_8.1 + 1)) (lv' := [(12, .int (nI (s_8.1 + 1))), (11, .int (nI s_4.1)), (10, .int s_8.2.1), (9, .int s_8.2.2), (8, .int (nI (s_2.1 - 1))), (6, .long s_2.2.1), (5, .int s_2.2.2.1), (4, .int s_2.2.2.2), (3, .int (nI (zpw Wd))), (0, .ref xA), (1, .int target), (2, .int (zb self))]) hx hb dX0_least_139 hl (k := 0) rfl (nI_add s_8.1 1) (by decide) rfl (fun ls hl => ?_)
                              refine lv_goto (tgt := 79) hx hb dX0_least_142 (by decide) ?_
                              exact ih_8 (s_8.1 + 1, s_8.2.1, s_8.2.2) (by omega) ((zw_l (by rw [xf_least_B79, if_neg c_9, if_neg c_10, if_neg c_11, if_neg c_12])).symm.trans hR_8) (by omega) H locs hP hD hS ls (lv_sub hl [0, 1, 2, 3, 4, 5, 6, 7, 8, 9, 10, 11] rfl)
                  exact hlp_8 _ (0, s_4.2.1, s_4.2.2) (Nat.lt_succ_self _) (by rw [xf_least_L79]) (by omega) H locs hP hD hS ls (lv_sub hl [0, 1, 2, 3, 4, 5, 6, 7, 8, 9, 10, 11] rfl)
                · refine lv_iload hx hb dX0_least_66 (lv_at hl 0 rfl) ?_
                  refine lv_iload hx hb dX0_least_68 (lv_at hl 5 rfl) ?_
                  refine lv_icmp_eq (tgt := 76) hx hb dX0_least_70 (by decide) (fun c_13 => ?_) (fun c_13 => ?_)
                  · refine lv_iconst (v := 0) hx hb dX0_least_76 (by decide) ?_
                    refine lv_istore (lv' := [(12, .int 0), (11, .int (nI s_4.1)), (10, .int s_4.2.1), (9, .int s_4.2.2), (8, .int (nI (s_2.1 - 1))), (6, .long s_2.2.1), (5, .int s_2.2.2.1), (4, .int s_2.2.2.2), (3, .int (nI (zpw Wd))), (0, .ref xA), (1, .int target), (2, .int (zb self))]) hx hb dX0_least_77 hl (by decide) rfl (fun ls hl => ?_)
                    have hx_14 : ∀ t_14 : Nat × Int32 × Int32, xf_least_L79b umayor uborn ustays Wd thouses talways tnever tring target self t_1 s_2 s_4 (0, s_4.2.1, s_4.2.2) = t_14 → ∀ (H : Heap) (locs : List Loc), va_P G.1 zcl ((xS_ G xa_ways xwA t_1) ++ (xA_ G xA xa_trays xa_tape x_taped x_faultKind x_faultAt xa_bad xa_refused x_status x_above x_under nA xa_marks x_markMany xa_pictures x_lead x_round xa_ways x_bestSet x_bestMany x_left xa_aside xa_last x_hasLived uA n_year) ++ (hW G uA tA uA_bo uA_st uA_se ulit umayor unight uoil uborn ustays useen) ++ (tW G tA tA_be tA_le tA_mo tA_rn tA_cn tA_bo tA_st (nI Wd) (nI R) thouses talways tnever (nI nr) (nI nc) tring tbeside tleast tmost trnames)) H → va_D A ((xS_ G xa_ways xwA t_1) ++ (xA_ G xA xa_trays xa_tape x_taped x_faultKind x_faultAt xa_bad xa_refused x_status x_above x_under nA xa_marks x_markMany xa_pictures x_lead x_round xa_ways x_bestSet x_bestMany x_left xa_aside xa_last x_hasLived uA n_year) ++ (hW G uA tA uA_bo uA_st uA_se ulit umayor unight uoil uborn ustays useen) ++ (tW G tA tA_be tA_le tA_mo tA_rn tA_cn tA_bo tA_st (nI Wd) (nI R) thouses talways tnever (nI nr) (nI nc) tring tbeside tleast tmost trnames)) → va_S A s.heap H locs → ∀ ls : Array Slot, lv_has ls 13 [(11, .int (nI s_4.1)), (10, .int t_14.2.1), (9, .int t_14.2.2), (8, .int (nI (s_2.1 - 1))), (6, .long s_2.2.1), (5, .int s_2.2.2.1), (4, .int s_2.2.2.2), (3, .int (nI (zpw Wd))), (0, .ref xA), (1, .int target), (2, .int (zb self))] → W p l e (zR 5 0 0) s m ([.ref xA, .int target, .int (zb self)] : List Value).toArray below meth c H locs 0 0 (MQ below (zQm G (True) (some (.long ((xf_least xw umayor uborn ustays Wd R thouses talways tnever tring target self).1))) ((xS_ G xa_ways xwA ((xf_least xw umayor uborn ustays Wd R thouses talways tnever tring target self).2)) ++ (xA_ G xA xa_trays xa_tape x_taped x_faultKind x_faultAt xa_bad xa_refused x_status x_above x_under nA xa_marks x_markMany xa_pictures x_lead x_round xa_ways x_bestSet x_bestMany x_left xa_aside xa_last x_hasLived uA n_year) ++ (hW G uA tA uA_bo uA_st uA_se ulit umayor unight uoil uborn ustays useen) ++ (tW G tA tA_be tA_le tA_mo tA_rn tA_cn tA_bo tA_st (nI Wd) (nI R) thouses talways tnever (nI nr) (nI nc) tring tbeside tleast tmost trnames)) A) ([.ref xA, .int target, .int (zb self)] : List Value).toArray s 0 0 A) (F0 m 145 ls []) := by
                      intro t_14 ht_14 H locs hP hD hS ls hl
                      refine lv_iinc (v := nI (s_4.1 + 1)) (lv' := [(11, .int (nI (s_4.1 + 1))), (10, .int t_14.2.1), (9, .int t_14.2.2), (8, .int (nI (s_2.1 - 1))), (6, .long s_2.2.1), (5, .int s_2.2.2.1), (4, .int s_2.2.2.2), (3, .int (nI (zpw Wd))), (0, .ref xA), (1, .int target), (2, .int (zb self))]) hx hb dX0_least_145 hl (k := 0) rfl (nI_add s_4.1 1) (by decide) rfl (fun ls hl => ?_)
                      refine lv_goto (tgt := 50) hx hb dX0_least_148 (by decide) ?_
                      exact ih_4 (s_4.1 + 1, t_14.2.1, t_14.2.2) (by omega) ((zw_l (by rw [xf_least_B50, if_neg c_5, if_neg c_6, if_neg c_7, if_pos c_13, zlet_eq ht_14])).symm.trans hR_4) (by omega) H locs hP hD hS ls (lv_sub hl [0, 1, 2, 3, 4, 5, 6, 7, 8, 9, 10] rfl)
                    have hlp_14 : ∀ (n : Nat) (s_14 : Nat × Int32 × Int32), zpw Wd - s_14.1 < n → zw (xf_least_B79b umayor uborn ustays Wd thouses talways tnever tring target self t_1 s_2 s_4) (0, s_4.2.1, s_4.2.2) n s_14 = xf_least_L79b umayor uborn ustays Wd thouses talways tnever tring target self t_1 s_2 s_4 (0, s_4.2.1, s_4.2.2) → s_14.1 ≤ zpw Wd → ∀ (H : Heap) (locs : List Loc), va_P G.1 zcl ((xS_ G xa_ways xwA t_1) ++ (xA_ G xA xa_trays xa_tape x_taped x_faultKind x_faultAt xa_bad xa_refused x_status x_above x_under nA xa_marks x_markMany xa_pictures x_lead x_round xa_ways x_bestSet x_bestMany x_left xa_aside xa_last x_hasLived uA n_year) ++ (hW G uA tA uA_bo uA_st uA_se ulit umayor unight uoil uborn ustays useen) ++ (tW G tA tA_be tA_le tA_mo tA_rn tA_cn tA_bo tA_st (nI Wd) (nI R) thouses talways tnever (nI nr) (nI nc) tring tbeside tleast tmost trnames)) H → va_D A ((xS_ G xa_ways xwA t_1) ++ (xA_ G xA xa_trays xa_tape x_taped x_faultKind x_faultAt xa_bad xa_refused x_status x_above x_under nA xa_marks x_markMany xa_pictures x_lead x_round xa_ways x_bestSet x_bestMany x_left xa_aside xa_last x_hasLived uA n_year) ++ (hW G uA tA uA_bo uA_st uA_se ulit umayor unight uoil uborn ustays useen) ++ (tW G tA tA_be tA_le tA_mo tA_rn tA_cn tA_bo tA_st (nI Wd) (nI R) thouses talways tnever (nI nr) (nI nc) tring tbeside tleast tmost trnames)) → va_S A s.heap H locs → ∀ ls : Array Slot, lv_has ls 13 [(12, .int (nI s_14.1)), (11, .int (nI s_4.1)), (10, .int s_14.2.1), (9, .int s_14.2.2), (8, .int (nI (s_2.1 - 1))), (6, .long s_2.2.1), (5, .int s_2.2.2.1), (4, .int s_2.2.2.2), (3, .int (nI (zpw Wd))), (0, .ref xA), (1, .int target), (2, .int (zb self))] → W p l e (zR 5 0 0) s m ([.ref xA, .int target, .int (zb self)] : List Value).toArray below meth c H locs 0 0 (MQ below (zQm G (True) (some (.long ((xf_least xw umayor uborn ustays Wd R thouses talways tnever tring target self).1))) ((xS_ G xa_ways xwA ((xf_least xw umayor uborn ustays Wd R thouses talways tnever tring target self).2)) ++ (xA_ G xA xa_trays xa_tape x_taped x_faultKind x_faultAt xa_bad xa_refused x_status x_above x_under nA xa_marks x_markMany xa_pictures x_lead x_round xa_ways x_bestSet x_bestMany x_left xa_aside xa_last x_hasLived uA n_year) ++ (hW G uA tA uA_bo uA_st uA_se ulit umayor unight uoil uborn ustays useen) ++ (tW G tA tA_be tA_le tA_mo tA_rn tA_cn tA_bo tA_st (nI Wd) (nI R) thouses talways tnever (nI nr) (nI nc) tring tbeside tleast tmost trnames)) A) ([.ref xA, .int target, .int (zb self)] : List Value).toArray s 0 0 A) (F0 m 79 ls []) := by
                      intro n
                      induction n with
                      | zero => exact fun _ h => absurd h (Nat.not_lt_zero _)
                      | succ n ih_14 =>
                        intro s_14 hmu_14 hR_14 hi12 H locs hP hD hS ls hl
                        refine lv_iload hx hb dX0_least_79 (lv_at hl 0 rfl) ?_
                        refine lv_iload_n hx hb dX0_least_81 rfl (lv_at hl 8 rfl) ?_
                        refine zr_ge s_14.1 (zpw Wd) (by omega) (by omega) (tgt := 145) hx hb dX0_least_82 (by decide) (fun c_15 => ?_) (fun c_15 => ?_)
                        · exact hx_14 (s_14.1, s_14.2.1, s_14.2.2) (hR_14.symm.trans (zw_r (by rw [xf_least_B79b, if_pos c_15]))) H locs hP hD hS ls (lv_sub hl [1, 2, 3, 4, 5, 6, 7, 8, 9, 10, 11] rfl)
                        · refine lv_iload hx hb dX0_least_85 (lv_at hl 3 rfl) ?_
                          refine lv_if_ge (tgt := 145) hx hb dX0_least_87 (by decide) (fun c_16 => ?_) (fun c_16 => ?_)
                          · exact hx_14 (s_14.1, s_14.2.1, s_14.2.2) (hR_14.symm.trans (zw_r (by rw [xf_least_B79b, if_neg c_15, if_pos c_16]))) H locs hP hD hS ls (lv_sub hl [1, 2, 3, 4, 5, 6, 7, 8, 9, 10, 11] rfl)
                          · refine lv_aload_n hx hb dX0_least_90 rfl (lv_at hl 9 rfl) ?_
                            refine va_get (D := G.1) (ci := 0) (v := .ref xa_ways) (C := RX0) (T := TX0) (N := 23) hx hb hts in_X0 hown hK.1 hP 7 rfl rfl 16 (Nat.le_of_ble_eq_true rfl) (hts _ q441) (fun _ h => h) rfl dX0_least_91 ?_
                            refine lv_iload hx hb dX0_least_94 (lv_at hl 4 rfl) ?_
                            refine zr_aaldL (s_2.1 - 1) hx hb hK hP 0 rfl rfl (Nat.le_of_ble_eq_true rfl) rfl (by omega) rfl dX0_least_96 ?_
                            refine lv_bipush (v := 32) hx hb dX0_least_97 (by decide) ?_
                            refine lv_iload hx hb dX0_least_99 (lv_at hl 0 rfl) ?_
                            refine zr_imulN 32 s_14.1 hx hb dX0_least_101 ?_
                            refine lv_iload hx hb dX0_least_102 (lv_at hl 1 rfl) ?_
                            refine zr_iaddN (32 * s_14.1) s_4.1 hx hb dX0_least_104 ?_
                            refine zr_val (v' := .int (nI (32 * s_14.1 + s_4.1))) (by rfl) ?_
                            refine zr_lald (32 * s_14.1 + s_4.1) (v := t_1 (s_2.1 - 1) (32 * s_14.1 + s_4.1)) hx hb hK hP (1 + (s_2.1 - 1)) (zget4 (xS_get _ _ _ _ (s_2.1 - 1) (by omega))) rfl (Nat.le_of_ble_eq_true rfl) rfl (by omega) rfl dX0_least_105 ?_
                            refine lv_lconst (v := 0) hx hb dX0_least_106 rfl ?_
                            refine W.lcmp hx hb dX0_least_107 ?_
                            refine zr_leq (tgt := 139) hx hb dX0_least_108 (by decide) (fun c_17 => ?_) (fun c_17 => ?_)
                            · refine lv_iinc (v := nI (s_14.1 + 1)) (lv' := [(12, .int (nI (s_14.1 + 1))), (11, .int (nI s_4.1)), (10, .int s_14.2.1), (9, .int s_14.2.2), (8, .int (nI (s_2.1 - 1))), (6, .long s_2.2.1), (5, .int s_2.2.2.1), (4, .int s_2.2.2.2), (3, .int (nI (zpw Wd))), (0, .ref xA), (1, .int target), (2, .int (zb self))]) hx hb dX0_least_139 hl (k := 0) rfl (nI_add s_14.1 1) (by decide) rfl (fun ls hl => ?_)
                              refine lv_goto (tgt := 79) hx hb dX0_least_142 (by decide) ?_
                              exact ih_14 (s_14.1 + 1, s_14.2.1, s_14.2.2) (by omega) ((zw_l (by rw [xf_least_B79b, if_neg c_15, if_neg c_16, if_pos c_17])).symm.trans hR_14) (by omega) H locs hP hD hS ls (lv_sub hl [0, 1, 2, 3, 4, 5, 6, 7, 8, 9, 10, 11] rfl)
                            · refine lv_aload_n hx hb dX0_least_111 rfl (lv_at hl 9 rfl) ?_
                              refine lv_iload hx hb dX0_least_112 (lv_at hl 4 rfl) ?_
                              refine lv_iload hx hb dX0_least_114 (lv_at hl 0 rfl) ?_
                              refine lv_iload hx hb dX0_least_116 (lv_at hl 1 rfl) ?_
                              refine lv_iload hx hb dX0_least_118 (lv_at hl 7 rfl) ?_
                              refine lv_iload_n hx hb dX0_least_120 rfl (lv_at hl 10 rfl) ?_
                              refine lv_iload_n hx hb dX0_least_121 rfl (lv_at hl 11 rfl) ?_
                              refine zr_obV ⟨hx, hb, hml, hown, hts⟩ (mt_xf_fits6 l G xA xa_trays xa_tape x_taped x_faultKind x_faultAt xa_bad xa_refused x_status x_above x_under nA xa_marks x_markMany xa_pictures x_lead x_round xa_ways x_bestSet x_bestMany x_left xa_aside xa_last x_hasLived uA n_year tA uA_bo uA_st uA_se ulit umayor unight uoil uborn ustays useen tA_be tA_le tA_mo tA_rn tA_cn tA_bo tA_st Wd R thouses talways tnever nr nc tring tbeside tleast tmost trnames (nI (s_2.1 - 1)) (nI s_14.1) (nI s_4.1) s_2.2.2.2 target self hT hmy) (cwV 6 hts (lw_V q1167 q1169 qs46 q135 q1170) rfl rfl rfl hd_X0_fits ⟨(Nat.le_of_ble_eq_true rfl), (Nat.le_of_ble_eq_true rfl)⟩) (zP_sub hP (ws' := ((xA_ G xA xa_trays xa_tape x_taped x_faultKind x_faultAt xa_bad xa_refused x_status x_above x_under nA xa_marks x_markMany xa_pictures x_lead x_round xa_ways x_bestSet x_bestMany x_left xa_aside xa_last x_hasLived uA n_year) ++ (hW G uA tA uA_bo uA_st uA_se ulit umayor unight uoil uborn ustays useen) ++ (tW G tA tA_be tA_le tA_mo tA_rn tA_cn tA_bo tA_st (nI Wd) (nI R) thouses talways tnever (nI nr) (nI nc) tring tbeside tleast tmost trnames))) [7, 8, 9, 10, 11, 12, 13, 14, 15, 16, 17] rfl) hK (zE_o hE hS) 0 0 rfl rfl rfl hl.1 rfl (Nat.le_of_ble_eq_true rfl) dX0_least_122 ⟨Nat.le_refl _, Nat.le_refl _⟩ ?_
                              refine zr_neB (xf_fits6 umayor uborn ustays Wd thouses talways tnever tring (nI (s_2.1 - 1)) (nI s_14.1) (nI s_4.1) s_2.2.2.2 target self) (tgt := 131) hx hb dX0_least_125 (by decide) (fun c_18 => ?_) (fun c_18 => ?_)
                              · refine lv_iload hx hb dX0_least_131 (lv_at hl 1 rfl) ?_
                                refine lv_istore (lv' := [(9, .int (nI s_4.1)), (12, .int (nI s_14.1)), (11, .int (nI s_4.1)), (10, .int s_14.2.1), (8, .int (nI (s_2.1 - 1))), (6, .long s_2.2.1), (5, .int s_2.2.2.1), (4, .int s_2.2.2.2), (3, .int (nI (zpw Wd))), (0, .ref xA), (1, .int target), (2, .int (zb self))]) hx hb dX0_least_133 hl (by decide) rfl (fun ls hl => ?_)
                                refine lv_iload hx hb dX0_least_135 (lv_at hl 1 rfl) ?_
                                refine lv_istore (lv' := [(10, .int (nI s_14.1)), (9, .int (nI s_4.1)), (12, .int (nI s_14.1)), (11, .int (nI s_4.1)), (8, .int (nI (s_2.1 - 1))), (6, .long s_2.2.1), (5, .int s_2.2.2.1), (4, .int s_2.2.2.2), (3, .int (nI (zpw Wd))), (0, .ref xA), (1, .int target), (2, .int (zb self))]) hx hb dX0_least_137 hl (by decide) rfl (fun ls hl => ?_)
                                refine lv_iinc (v := nI (s_14.1 + 1)) (lv' := [(12, .int (nI (s_14.1 + 1))), (10, .int (nI s_14.1)), (9, .int (nI s_4.1)), (11, .int (nI s_4.1)), (8, .int (nI (s_2.1 - 1))), (6, .long s_2.2.1), (5, .int s_2.2.2.1), (4, .int s_2.2.2.2), (3, .int (nI (zpw Wd))), (0, .ref xA), (1, .int target), (2, .int (zb self))]) hx hb dX0_least_139 hl (k := 2) rfl (nI_add s_14.1 1) (by decide) rfl (fun ls hl => ?_)
                                refine lv_goto (tgt := 79) hx hb dX0_least_142 (by decide) ?_
                                exact ih_14 (s_14.1 + 1, nI s_14.1, nI s_4.1) (by omega) ((zw_l (by rw [xf_least_B79b, if_neg c_15, if_neg c_16, if_neg c_17, if_pos c_18])).symm.trans hR_14) (by omega) H locs hP hD hS ls (lv_sub hl [0, 3, 1, 2, 4, 5, 6, 7, 8, 9, 10, 11] rfl)
                              · refine lv_goto (tgt := 139) hx hb dX0_least_128 (by decide) ?_
                                refine lv_iinc (v := nI (s_14.1 + 1)) (lv' := [(12, .int (nI (s_14.1 + 1))), (11, .int (nI s_4.1)), (10, .int s_14.2.1), (9, .int s_14.2.2), (8, .int (nI (s_2.1 - 1))), (6, .long s_2.2.1), (5, .int s_2.2.2.1), (4, .int s_2.2.2.2), (3, .int (nI (zpw Wd))), (0, .ref xA), (1, .int target), (2, .int (zb self))]) hx hb dX0_least_139 hl (k := 0) rfl (nI_add s_14.1 1) (by decide) rfl (fun ls hl => ?_)
                                refine lv_goto (tgt := 79) hx hb dX0_least_142 (by decide) ?_
                                exact ih_14 (s_14.1 + 1, s_14.2.1, s_14.2.2) (by omega) ((zw_l (by rw [xf_least_B79b, if_neg c_15, if_neg c_16, if_neg c_17, if_neg c_18])).symm.trans hR_14) (by omega) H locs hP hD hS ls (lv_sub hl [0, 1, 2, 3, 4, 5, 6, 7, 8, 9, 10, 11] rfl)
                    exact hlp_14 _ (0, s_4.2.1, s_4.2.2) (Nat.lt_succ_self _) (by rw [xf_least_L79b]) (by omega) H locs hP hD hS ls (lv_sub hl [0, 1, 2, 3, 4, 5, 6, 7, 8, 9, 10, 11] rfl)
                  · refine lv_goto (tgt := 145) hx hb dX0_least_73 (by decide) ?_
                    refine lv_iinc (v := nI (s_4.1 + 1)) (lv' := [(11, .int (nI (s_4.1 + 1))), (10, .int s_4.2.1), (9, .int s_4.2.2), (8, .int (nI (s_2.1 - 1))), (6, .long s_2.2.1), (5, .int s_2.2.2.1), (4, .int s_2.2.2.2), (3, .int (nI (zpw Wd))), (0, .ref xA), (1, .int target), (2, .int (zb self))]) hx hb dX0_least_145 hl (k := 0) rfl (nI_add s_4.1 1) (by decide) rfl (fun ls hl => ?_)
                    refine lv_goto (tgt := 50) hx hb dX0_least_148 (by decide) ?_
                    exact ih_4 (s_4.1 + 1, s_4.2.1, s_4.2.2) (by omega) ((zw_l (by rw [xf_least_B50, if_neg c_5, if_neg c_6, if_neg c_7, if_neg c_13])).symm.trans hR_4) (by omega) H locs hP hD hS ls (lv_sub hl [0, 1, 2, 3, 4, 5, 6, 7, 8, 9, 10] rfl)
        exact hlp_4 _ (0, (-1), (-1)) (Nat.lt_succ_self _) (by rw [xf_least_L50]) (by omega) H locs hP hD hS ls (lv_sub hl [0, 1, 2, 3, 4, 5, 6, 7, 8, 9, 10] rfl)
  exact hlp_2 _ (R, 0, (-1), 0) (Nat.lt_succ_self _) (by rw [xf_least_L36]) (by omega) H locs hP hD hS ls (lv_sub hl [0, 1, 2, 3, 4, 5, 6, 7] rfl)
def xf_ancestors (xw : Nat → Nat → Int64) (ulit : Int32) (umayor : Int32) (uborn : Nat → Int32) (ustays : Nat → Int32) (Wd : Nat) (R : Nat) (thouses : Int32) (talways : Int32) (tnever : Int32) (tring : Bool) : Int64 × (Nat → Nat → Int64) × Int32 :=
  zlet (xf_sum xw umayor uborn ustays Wd R thouses talways tnever tring ulit false) (fun t_1 =>
  (t_1.1, t_1.2, 0))
theorem hd_X0_ancestors : yX0_ancestors.cls = RX0 ∧ yX0_ancestors.cls ≠ "java/lang/invoke/MethodHandle" ∧ yX0_ancestors.cls ≠ "java/lang/invoke/VarHandle" ∧ (parseMethodDescriptor yX0_ancestors.desc).map (fun d => d.parameters.length) = some 0 := by decide +kernel
set_option maxHeartbeats 4000000 in
set_option maxRecDepth 100000 in
theorem mt_xf_ancestors (l : Launch) (G : zG) (xa_ways : Nat) (xwA : Nat → Nat) (xw : Nat → Nat → Int64) (xA : Nat) (xa_trays : Nat) (xa_tape : Nat) (x_taped : Int32) (x_faultKind : Int32) (x_faultAt : Int32) (xa_bad : Nat) (xa_refused : Nat) (x_status : Int32) (x_above : Int64) (x_under : Int64) (nA : Nat) (xa_marks : Nat) (x_markMany : Int32) (xa_pictures : Nat) (x_lead : Int32) (x_round : Int32) (x_bestSet : Int32) (x_bestMany : Int32) (x_left : Int32) (xa_aside : Nat) (xa_last : Nat) (x_hasLived : Bool) (uA : Nat) (n_year : Option Nat) (tA : Nat) (uA_bo : Nat) (uA_st : Nat) (uA_se : Nat) (ulit : Int32) (umayor : Int32) (unight : Int32) (uoil : Int32) (uborn : Nat → Int32) (ustays : Nat → Int32) (useen : Nat → Int32) (tA_be : Nat) (tA_le : Nat) (tA_mo : Nat) (tA_rn : Nat) (tA_cn : Nat) (tA_bo : Nat) (tA_st : Nat) (Wd : Nat) (R : Nat) (thouses : Int32) (talways : Int32) (tnever : Int32) (nr : Nat) (nc : Nat) (tring : Bool) (tbeside : Nat → Int32) (tleast : Nat → Int32) (tmost : Nat → Int32) (trnames : Nat → Int64) (hT : tOK Wd R nr nc) (hmy : umayor < 0 ∨ (¬ umayor < 0 ∧ umayor.toNatClampNeg < nr)) (sz : Nat) : Met l yX0_ancestors (ws_ yX0_ancestors cX0_ancestors 1 (some .long)) (zR 6 0 0) (zPm G sz [.ref xA] ((xS_ G xa_ways xwA xw) ++ (xA_ G xA xa_trays xa_tape x_taped x_faultKind x_faultAt xa_bad xa_refused x_status x_above x_under nA xa_marks x_markMany xa_pictures x_lead x_round xa_ways x_bestSet x_bestMany x_left xa_aside xa_last x_hasLived uA n_year) ++ (hW G uA tA uA_bo uA_st uA_se ulit umayor unight uoil uborn ustays useen) ++ (tW G tA tA_be tA_le tA_mo tA_rn tA_cn tA_bo tA_st (nI Wd) (nI R) thouses talways tnever (nI nr) (nI nc) tring tbeside tleast tmost trnames))) (zQm G (True) (some (.long ((xf_ancestors xw ulit umayor uborn ustays Wd R thouses talways tnever tring).1))) ((xS_ G xa_ways xwA ((xf_ancestors xw ulit umayor uborn ustays Wd R thouses talways tnever tring).2.1)) ++ (xA_ G xA xa_trays xa_tape x_taped x_faultKind x_faultAt xa_bad xa_refused ((xf_ancestors xw ulit umayor uborn ustays Wd R thouses talways tnever tring).2.2) x_above x_under nA xa_marks x_markMany xa_pictures x_lead x_round xa_ways x_bestSet x_bestMany x_left xa_aside xa_last x_hasLived uA n_year) ++ (hW G uA tA uA_bo uA_st uA_se ulit umayor unight uoil uborn ustays useen) ++ (tW G tA tA_be tA_le tA_mo tA_rn tA_cn tA_bo tA_st (nI Wd) (nI R) thouses talways tnever (nI nr) (nI nc) tring tbeside tleast tmost trnames)) (va_A ((xS_ G xa_ways xwA xw) ++ (xA_ G xA xa_trays xa_tape x_taped x_faultKind x_faultAt xa_bad xa_refused x_status x_above x_under nA xa_marks x_markMany xa_pictures x_lead x_round xa_ways x_bestSet x_bestMany x_left xa_aside xa_last x_hasLived uA n_year) ++ (hW G uA tA uA_bo uA_st uA_se ulit umayor unight uoil uborn ustays useen) ++ (tW G tA tA_be tA_le tA_mo tA_rn tA_cn tA_bo tA_st (nI Wd) (nI R) thouses talways tnever (nI nr) (nI nc) tring tbeside tleast tmost trnames)) sz)) 0 0 (va_A ((xS_ G xa_ways xwA xw) ++ (xA_ G xA xa_trays xa_tape x_taped x_faultKind x_faultAt xa_bad xa_refused x_status x_above x_under nA xa_marks x_markMany xa_pictures x_lead x_round xa_ways x_bestSet x_bestMany x_left xa_aside xa_last x_hasLived uA n_year) ++ (hW G uA tA uA_bo uA_st uA_se ulit umayor unight uoil uborn ustays useen) ++ (tW G tA tA_be tA_le tA_mo tA_rn tA_cn tA_bo tA_st (nI Wd) (nI R) thouses talways tnever (nI nr) (nI nc) tring tbeside tleast tmost trnames)) sz) := by
  refine zr_entM (by decide) (Nat.le_of_ble_eq_true rfl) ?_
  intro p e s m below meth c ⟨hx, hb, hr, hml, hown, hts, hlocks, hnm⟩ ls hl hP hK A hE hA hD hS
  have hown : s.vm.findClass RX0 = some m.cls := hown
  have hl : lv_has ls 1 [(0, .ref xA)] := hl
  obtain ⟨H, hH⟩ : ∃ H, H = s.heap := ⟨_, rfl⟩
  obtain ⟨locs, hlo⟩ : ∃ L : List Loc, L = [] := ⟨_, rfl⟩
  rw [← hH] at hP
  have hS : va_S A s.heap H locs := by rw [hH, hlo]; exact va_S.rf
  have hgo : W p l e (zR 6 0 0) s m ([.ref xA] : List Value).toArray below meth c H locs 0 0 (MQ below (zQm G (True) (some (.long ((xf_ancestors xw ulit umayor uborn ustays Wd R thouses talways tnever tring).1))) ((xS_ G xa_ways xwA ((xf_ancestors xw ulit umayor uborn ustays Wd R thouses talways tnever tring).2.1)) ++ (xA_ G xA xa_trays xa_tape x_taped x_faultKind x_faultAt xa_bad xa_refused ((xf_ancestors xw ulit umayor uborn ustays Wd R thouses talways tnever tring).2.2) x_above x_under nA xa_marks x_markMany xa_pictures x_lead x_round xa_ways x_bestSet x_bestMany x_left xa_aside xa_last x_hasLived uA n_year) ++ (hW G uA tA uA_bo uA_st uA_se ulit umayor unight uoil uborn ustays useen) ++ (tW G tA tA_be tA_le tA_mo tA_rn tA_cn tA_bo tA_st (nI Wd) (nI R) thouses talways tnever (nI nr) (nI nc) tring tbeside tleast tmost trnames)) A) ([.ref xA] : List Value).toArray s 0 0 A) (F0 m 0 ls []) := ?_
  · rw [hH, hlo] at hgo; exact hgo
  clear hH hlo
  have hTT := hT
  obtain ⟨hW0, hW5, hR0, hR6, hn4, hc6, hWR⟩ := hTT
  refine lv_aload_n hx hb dX0_ancestors_0 rfl (lv_at hl 0 rfl) ?_
  refine lv_iconst (v := 0) hx hb dX0_ancestors_1 (by decide) ?_
  refine va_put (D := G.1) (ci := 0) (v := .int 0) (ty := .int) (C := RX0) (T := TX0) (N := 23) hx hb hts in_X0 tyX0 tyX0_ok nmX0 hown hK.1 hP hD hS 7 rfl rfl 7 (Nat.le_of_ble_eq_true rfl) (hts _ q432) (fun _ h => h) rfl (tyX0_ok 7 (Nat.le_of_ble_eq_true rfl)) rfl rfl (Nat.le_of_ble_eq_true rfl) dX0_ancestors_2 (fun H locs hP hD hS => ?_)
  have hP : va_P G.1 zcl ((xS_ G xa_ways xwA xw) ++ (xA_ G xA xa_trays xa_tape x_taped x_faultKind x_faultAt xa_bad xa_refused 0 x_above x_under nA xa_marks x_markMany xa_pictures x_lead x_round xa_ways x_bestSet x_bestMany x_left xa_aside xa_last x_hasLived uA n_year) ++ (hW G uA tA uA_bo uA_st uA_se ulit umayor unight uoil uborn ustays useen) ++ (tW G tA tA_be tA_le tA_mo tA_rn tA_cn tA_bo tA_st (nI Wd) (nI R) thouses talways tnever (nI nr) (nI nc) tring tbeside tleast tmost trnames)) H := hP
  have hD : va_D A ((xS_ G xa_ways xwA xw) ++ (xA_ G xA xa_trays xa_tape x_taped x_faultKind x_faultAt xa_bad xa_refused 0 x_above x_under nA xa_marks x_markMany xa_pictures x_lead x_round xa_ways x_bestSet x_bestMany x_left xa_aside xa_last x_hasLived uA n_year) ++ (hW G uA tA uA_bo uA_st uA_se ulit umayor unight uoil uborn ustays useen) ++ (tW G tA tA_be tA_le tA_mo tA_rn tA_cn tA_bo tA_st (nI Wd) (nI R) thouses talways tnever (nI nr) (nI nc) tring tbeside tleast tmost trnames)) := hD
  refine lv_aload_n hx hb dX0_ancestors_5 rfl (lv_at hl 0 rfl) ?_
  refine lv_aload_n hx hb dX0_ancestors_6 rfl (lv_at hl 0 rfl) ?_
  refine zr_obV ⟨hx, hb, hml, hown, hts⟩ (mt_xf_hill l G xA xa_trays xa_tape x_taped x_faultKind x_faultAt xa_bad xa_refused 0 x_above x_under nA xa_marks x_markMany xa_pictures x_lead x_round xa_ways x_bestSet x_bestMany x_left xa_aside xa_last x_hasLived uA n_year tA uA_bo uA_st uA_se ulit umayor unight uoil uborn ustays useen tA_be tA_le tA_mo tA_rn tA_cn tA_bo tA_st Wd R thouses talways tnever nr nc tring tbeside tleast tmost trnames hT) (cwV 0 hts (lw_V q841 q843 qs26 q135 q844) rfl rfl rfl hd_X0_hill ⟨(Nat.le_of_ble_eq_true rfl), (Nat.le_of_ble_eq_true rfl)⟩) (zP_sub hP (ws' := ((xA_ G xA xa_trays xa_tape x_taped x_faultKind x_faultAt xa_bad xa_refused 0 x_above x_under nA xa_marks x_markMany xa_pictures x_lead x_round xa_ways x_bestSet x_bestMany x_left xa_aside xa_last x_hasLived uA n_year) ++ (hW G uA tA uA_bo uA_st uA_se ulit umayor unight uoil uborn ustays useen) ++ (tW G tA tA_be tA_le tA_mo tA_rn tA_cn tA_bo tA_st (nI Wd) (nI R) thouses talways tnever (nI nr) (nI nc) tring tbeside tleast tmost trnames))) [7, 8, 9, 10, 11, 12, 13, 14, 15, 16, 17] rfl) hK (zE_o hE hS) 0 0 rfl rfl rfl hl.1 rfl (Nat.le_of_ble_eq_true rfl) dX0_ancestors_7 ⟨Nat.le_refl _, Nat.le_refl _⟩ ?_
  refine va_getN (D := G.1) (ci := 5) (v := .int ulit) (C := RX5) (T := TX5) (N := 8) hx hb hts in_X5 hown hK.1 hP 9 rfl rfl 4 (Nat.le_of_ble_eq_true rfl) ((hK.2.1.1 _ (List.mem_of_getElem? (i := 14) rfl)).use rfl) (fun _ h => h) rfl dX0_ancestors_10 ?_
  refine lv_iconst (v := 0) hx hb dX0_ancestors_13 (by decide) ?_
  refine zr_muV (F := xf_sum xw umayor uborn ustays Wd R thouses talways tnever tring ulit false) (ff := fun t_1 => True) (rr := fun t_1 => some (.long t_1.1)) (w1 := fun t_1 => ((xS_ G xa_ways xwA t_1.2) ++ (xA_ G xA xa_trays xa_tape x_taped x_faultKind x_faultAt xa_bad xa_refused 0 x_above x_under nA xa_marks x_markMany xa_pictures x_lead x_round xa_ways x_bestSet x_bestMany x_left xa_aside xa_last x_hasLived uA n_year) ++ (hW G uA tA uA_bo uA_st uA_se ulit umayor unight uoil uborn ustays useen) ++ (tW G tA tA_be tA_le tA_mo tA_rn tA_cn tA_bo tA_st (nI Wd) (nI R) thouses talways tnever (nI nr) (nI nc) tring tbeside tleast tmost trnames))) ⟨hx, hb, hml, hown, hts⟩ (mt_xf_sum l G xa_ways xwA xw xA xa_trays xa_tape x_taped x_faultKind x_faultAt xa_bad xa_refused 0 x_above x_under nA xa_marks x_markMany xa_pictures x_lead x_round x_bestSet x_bestMany x_left xa_aside xa_last x_hasLived uA n_year tA uA_bo uA_st uA_se ulit umayor unight uoil uborn ustays useen tA_be tA_le tA_mo tA_rn tA_cn tA_bo tA_st Wd R thouses talways tnever nr nc tring tbeside tleast tmost trnames ulit false hT hmy H.size) (cwV 2 hts (lw_V q1155 q1157 qs43 q135 q1158) rfl rfl rfl hd_X0_sum ⟨(Nat.le_of_ble_eq_true rfl), (Nat.le_of_ble_eq_true rfl)⟩) hP hD hS hA hK hE 7 0 rfl rfl rfl hl.1 rfl (Nat.le_of_ble_eq_true rfl) dX0_ancestors_14 ⟨Nat.le_refl _, Nat.le_refl _⟩ (fun t_1 ht_1 hft_1 H locs hP hD hS _ => ?_)
  refine W.eq (g2 := F0 m 17 ls [.long t_1.1]) rfl ?_
  have e_ : xf_ancestors xw ulit umayor uborn ustays Wd R thouses talways tnever tring = (t_1.1, t_1.2, 0) := by rw [xf_ancestors, zlet_eq ht_1]
  exact zr_ml hx hb hr hlocks hP hD hS dX0_ancestors_17 (by rw [e_])  (by rw [e_]) trivial
def xf_answerLong (v : Int64) : Int64 × Int32 :=
  (if v < 0 then
    (v, 6)
  else
    (v, 0))
theorem hd_X0_answerLong : yX0_answerLong.cls = RX0 ∧ yX0_answerLong.cls ≠ "java/lang/invoke/MethodHandle" ∧ yX0_answerLong.cls ≠ "java/lang/invoke/VarHandle" ∧ (parseMethodDescriptor yX0_answerLong.desc).map (fun d => d.parameters.length) = some 1 := by decide +kernel
set_option maxHeartbeats 4000000 in
set_option maxRecDepth 100000 in
theorem mt_xf_answerLong (l : Launch) (G : zG) (xA : Nat) (xa_trays : Nat) (xa_tape : Nat) (x_taped : Int32) (x_faultKind : Int32) (x_faultAt : Int32) (xa_bad : Nat) (xa_refused : Nat) (x_status : Int32) (x_above : Int64) (x_under : Int64) (nA : Nat) (xa_marks : Nat) (x_markMany : Int32) (xa_pictures : Nat) (x_lead : Int32) (x_round : Int32) (xa_ways : Nat) (x_bestSet : Int32) (x_bestMany : Int32) (x_left : Int32) (xa_aside : Nat) (xa_last : Nat) (x_hasLived : Bool) (uA : Nat) (n_year : Option Nat) (tA : Nat) (uA_bo : Nat) (uA_st : Nat) (uA_se : Nat) (ulit : Int32) (umayor : Int32) (unight : Int32) (uoil : Int32) (uborn : Nat → Int32) (ustays : Nat → Int32) (useen : Nat → Int32) (tA_be : Nat) (tA_le : Nat) (tA_mo : Nat) (tA_rn : Nat) (tA_cn : Nat) (tA_bo : Nat) (tA_st : Nat) (Wd : Nat) (R : Nat) (thouses : Int32) (talways : Int32) (tnever : Int32) (nr : Nat) (nc : Nat) (tring : Bool) (tbeside : Nat → Int32) (tleast : Nat → Int32) (tmost : Nat → Int32) (trnames : Nat → Int64) (v : Int64) (hT : tOK Wd R nr nc) (sz : Nat) : Met l yX0_answerLong (ws_ yX0_answerLong cX0_answerLong 3 (some .long)) (zR 1 0 0) (zPm G sz [.ref xA, .long v] ((xA_ G xA xa_trays xa_tape x_taped x_faultKind x_faultAt xa_bad xa_refused x_status x_above x_under nA xa_marks x_markMany xa_pictures x_lead x_round xa_ways x_bestSet x_bestMany x_left xa_aside xa_last x_hasLived uA n_year) ++ (hW G uA tA uA_bo uA_st uA_se ulit umayor unight uoil uborn ustays useen) ++ (tW G tA tA_be tA_le tA_mo tA_rn tA_cn tA_bo tA_st (nI Wd) (nI R) thouses talways tnever (nI nr) (nI nc) tring tbeside tleast tmost trnames))) (zQm G (True) (some (.long ((xf_answerLong v).1))) ((xA_ G xA xa_trays xa_tape x_taped x_faultKind x_faultAt xa_bad xa_refused ((xf_answerLong v).2) x_above x_under nA xa_marks x_markMany xa_pictures x_lead x_round xa_ways x_bestSet x_bestMany x_left xa_aside xa_last x_hasLived uA n_year) ++ (hW G uA tA uA_bo uA_st uA_se ulit umayor unight uoil uborn ustays useen) ++ (tW G tA tA_be tA_le tA_mo tA_rn tA_cn tA_bo tA_st (nI Wd) (nI R) thouses talways tnever (nI nr) (nI nc) tring tbeside tleast tmost trnames)) (va_A ((xA_ G xA xa_trays xa_tape x_taped x_faultKind x_faultAt xa_bad xa_refused x_status x_above x_under nA xa_marks x_markMany xa_pictures x_lead x_round xa_ways x_bestSet x_bestMany x_left xa_aside xa_last x_hasLived uA n_year) ++ (hW G uA tA uA_bo uA_st uA_se ulit umayor unight uoil uborn ustays useen) ++ (tW G tA tA_be tA_le tA_mo tA_rn tA_cn tA_bo tA_st (nI Wd) (nI R) thouses talways tnever (nI nr) (nI nc) tring tbeside tleast tmost trnames)) sz)) 0 0 (va_A ((xA_ G xA xa_trays xa_tape x_taped x_faultKind x_faultAt xa_bad xa_refused x_status x_above x_under nA xa_marks x_markMany xa_pictures x_lead x_round xa_ways x_bestSet x_bestMany x_left xa_aside xa_last x_hasLived uA n_year) ++ (hW G uA tA uA_bo uA_st uA_se ulit umayor unight uoil uborn ustays useen) ++ (tW G tA tA_be tA_le tA_mo tA_rn tA_cn tA_bo tA_st (nI Wd) (nI R) thouses talways tnever (nI nr) (nI nc) tring tbeside tleast tmost trnames)) sz) := by
  refine zr_entM (by decide) (Nat.le_of_ble_eq_true rfl) ?_
  intro p e s m below meth c ⟨hx, hb, hr, hml, hown, hts, hlocks, hnm⟩ ls hl hP hK A hE hA hD hS
  have hown : s.vm.findClass RX0 = some m.cls := hown
  have hl : lv_has ls 3 [(0, .ref xA), (1, .long v)] := hl
  obtain ⟨H, hH⟩ : ∃ H, H = s.heap := ⟨_, rfl⟩
  obtain ⟨locs, hlo⟩ : ∃ L : List Loc, L = [] := ⟨_, rfl⟩
  rw [← hH] at hP
  have hS : va_S A s.heap H locs := by rw [hH, hlo]; exact va_S.rf
  have hgo : W p l e (zR 1 0 0) s m ([.ref xA, .long v] : List Value).toArray below meth c H locs 0 0 (MQ below (zQm G (True) (some (.long ((xf_answerLong v).1))) ((xA_ G xA xa_trays xa_tape x_taped x_faultKind x_faultAt xa_bad xa_refused ((xf_answerLong v).2) x_above x_under nA xa_marks x_markMany xa_pictures x_lead x_round xa_ways x_bestSet x_bestMany x_left xa_aside xa_last x_hasLived uA n_year) ++ (hW G uA tA uA_bo uA_st uA_se ulit umayor unight uoil uborn ustays useen) ++ (tW G tA tA_be tA_le tA_mo tA_rn tA_cn tA_bo tA_st (nI Wd) (nI R) thouses talways tnever (nI nr) (nI nc) tring tbeside tleast tmost trnames)) A) ([.ref xA, .long v] : List Value).toArray s 0 0 A) (F0 m 0 ls []) := ?_
  · rw [hH, hlo] at hgo; exact hgo
  clear hH hlo
  have hTT := hT
  obtain ⟨hW0, hW5, hR0, hR6, hn4, hc6, hWR⟩ := hTT
  refine lv_aload_n hx hb dX0_answerLong_0 rfl (lv_at hl 0 rfl) ?_
  refine lv_lload_n hx hb dX0_answerLong_1 rfl (lv_at hl 1 rfl) ?_
  refine lv_lconst (v := 0) hx hb dX0_answerLong_2 rfl ?_
  refine W.lcmp hx hb dX0_answerLong_3 ?_
  refine zr_lge (tgt := 12) hx hb dX0_answerLong_4 (by decide) (fun c_1 => ?_) (fun c_1 => ?_)
  · refine lv_iconst (v := 0) hx hb dX0_answerLong_12 (by decide) ?_
    refine va_put (D := G.1) (ci := 0) (v := .int 0) (ty := .int) (C := RX0) (T := TX0) (N := 23) hx hb hts in_X0 tyX0 tyX0_ok nmX0 hown hK.1 hP hD hS 0 rfl rfl 7 (Nat.le_of_ble_eq_true rfl) (hts _ q432) (fun _ h => h) rfl (tyX0_ok 7 (Nat.le_of_ble_eq_true rfl)) rfl rfl (Nat.le_of_ble_eq_true rfl) dX0_answerLong_13 (fun H locs hP hD hS => ?_)
    have hP : va_P G.1 zcl ((xA_ G xA xa_trays xa_tape x_taped x_faultKind x_faultAt xa_bad xa_refused 0 x_above x_under nA xa_marks x_markMany xa_pictures x_lead x_round xa_ways x_bestSet x_bestMany x_left xa_aside xa_last x_hasLived uA n_year) ++ (hW G uA tA uA_bo uA_st uA_se ulit umayor unight uoil uborn ustays useen) ++ (tW G tA tA_be tA_le tA_mo tA_rn tA_cn tA_bo tA_st (nI Wd) (nI R) thouses talways tnever (nI nr) (nI nc) tring tbeside tleast tmost trnames)) H := hP
    have hD : va_D A ((xA_ G xA xa_trays xa_tape x_taped x_faultKind x_faultAt xa_bad xa_refused 0 x_above x_under nA xa_marks x_markMany xa_pictures x_lead x_round xa_ways x_bestSet x_bestMany x_left xa_aside xa_last x_hasLived uA n_year) ++ (hW G uA tA uA_bo uA_st uA_se ulit umayor unight uoil uborn ustays useen) ++ (tW G tA tA_be tA_le tA_mo tA_rn tA_cn tA_bo tA_st (nI Wd) (nI R) thouses talways tnever (nI nr) (nI nc) tring tbeside tleast tmost trnames)) := hD
    refine lv_lload_n hx hb dX0_answerLong_16 rfl (lv_at hl 1 rfl) ?_
    have e_ : xf_answerLong v = (v, 0) := by rw [xf_answerLong, if_neg c_1]
    exact zr_ml hx hb hr hlocks hP hD hS dX0_answerLong_17 (by rw [e_])  (by rw [e_]) trivial
  · refine lv_bipush (v := 6) hx hb dX0_answerLong_7 (by decide) ?_
    refine lv_goto (tgt := 13) hx hb dX0_answerLong_9 (by decide) ?_
    refine va_put (D := G.1) (ci := 0) (v := .int 6) (ty := .int) (C := RX0) (T := TX0) (N := 23) hx hb hts in_X0 tyX0 tyX0_ok nmX0 hown hK.1 hP hD hS 0 rfl rfl 7 (Nat.le_of_ble_eq_true rfl) (hts _ q432) (fun _ h => h) rfl (tyX0_ok 7 (Nat.le_of_ble_eq_true rfl)) rfl rfl (Nat.le_of_ble_eq_true rfl) dX0_answerLong_13 (fun H locs hP hD hS => ?_)
    have hP : va_P G.1 zcl ((xA_ G xA xa_trays xa_tape x_taped x_faultKind x_faultAt xa_bad xa_refused 6 x_above x_under nA xa_marks x_markMany xa_pictures x_lead x_round xa_ways x_bestSet x_bestMany x_left xa_aside xa_last x_hasLived uA n_year) ++ (hW G uA tA uA_bo uA_st uA_se ulit umayor unight uoil uborn ustays useen) ++ (tW G tA tA_be tA_le tA_mo tA_rn tA_cn tA_bo tA_st (nI Wd) (nI R) thouses talways tnever (nI nr) (nI nc) tring tbeside tleast tmost trnames)) H := hP
    have hD : va_D A ((xA_ G xA xa_trays xa_tape x_taped x_faultKind x_faultAt xa_bad xa_refused 6 x_above x_under nA xa_marks x_markMany xa_pictures x_lead x_round xa_ways x_bestSet x_bestMany x_left xa_aside xa_last x_hasLived uA n_year) ++ (hW G uA tA uA_bo uA_st uA_se ulit umayor unight uoil uborn ustays useen) ++ (tW G tA tA_be tA_le tA_mo tA_rn tA_cn tA_bo tA_st (nI Wd) (nI R) thouses talways tnever (nI nr) (nI nc) tring tbeside tleast tmost trnames)) := hD
    refine lv_lload_n hx hb dX0_answerLong_16 rfl (lv_at hl 1 rfl) ?_
    have e_ : xf_answerLong v = (v, 6) := by rw [xf_answerLong, if_pos c_1]
    exact zr_ml hx hb hr hlocks hP hD hS dX0_answerLong_17 (by rw [e_])  (by rw [e_]) trivial
def xf_stills (xw : Nat → Nat → Int64) (umayor : Int32) (uborn : Nat → Int32) (ustays : Nat → Int32) (Wd : Nat) (R : Nat) (thouses : Int32) (talways : Int32) (tnever : Int32) (tring : Bool) : Int64 × (Nat → Nat → Int64) × Int32 :=
  zlet (xf_sum xw umayor uborn ustays Wd R thouses talways tnever tring 0 true) (fun t_1 =>
  (t_1.1, t_1.2, 0))
theorem hd_X0_stills : yX0_stills.cls = RX0 ∧ yX0_stills.cls ≠ "java/lang/invoke/MethodHandle" ∧ yX0_stills.cls ≠ "java/lang/invoke/VarHandle" ∧ (parseMethodDescriptor yX0_stills.desc).map (fun d => d.parameters.length) = some 0 := by decide +kernel
set_option maxHeartbeats 4000000 in
set_option maxRecDepth 100000 in
theorem mt_xf_stills (l : Launch) (G : zG) (xa_ways : Nat) (xwA : Nat → Nat) (xw : Nat → Nat → Int64) (xA : Nat) (xa_trays : Nat) (xa_tape : Nat) (x_taped : Int32) (x_faultKind : Int32) (x_faultAt : Int32) (xa_bad : Nat) (xa_refused : Nat) (x_status : Int32) (x_above : Int64) (x_under : Int64) (nA : Nat) (xa_marks : Nat) (x_markMany : Int32) (xa_pictures : Nat) (x_lead : Int32) (x_round : Int32) (x_bestSet : Int32) (x_bestMany : Int32) (x_left : Int32) (xa_aside : Nat) (xa_last : Nat) (x_hasLived : Bool) (uA : Nat) (n_year : Option Nat) (tA : Nat) (uA_bo : Nat) (uA_st : Nat) (uA_se : Nat) (ulit : Int32) (umayor : Int32) (unight : Int32) (uoil : Int32) (uborn : Nat → Int32) (ustays : Nat → Int32) (useen : Nat → Int32) (tA_be : Nat) (tA_le : Nat) (tA_mo : Nat) (tA_rn : Nat) (tA_cn : Nat) (tA_bo : Nat) (tA_st : Nat) (Wd : Nat) (R : Nat) (thouses : Int32) (talways : Int32) (tnever : Int32) (nr : Nat) (nc : Nat) (tring : Bool) (tbeside : Nat → Int32) (tleast : Nat → Int32) (tmost : Nat → Int32) (trnames : Nat → Int64) (hT : tOK Wd R nr nc) (hmy : umayor < 0 ∨ (¬ umayor < 0 ∧ umayor.toNatClampNeg < nr)) (sz : Nat) : Met l yX0_stills (ws_ yX0_stills cX0_stills 1 (some .long)) (zR 6 0 0) (zPm G sz [.ref xA] ((xS_ G xa_ways xwA xw) ++ (xA_ G xA xa_trays xa_tape x_taped x_faultKind x_faultAt xa_bad xa_refused x_status x_above x_under nA xa_marks x_markMany xa_pictures x_lead x_round xa_ways x_bestSet x_bestMany x_left xa_aside xa_last x_hasLived uA n_year) ++ (hW G uA tA uA_bo uA_st uA_se ulit umayor unight uoil uborn ustays useen) ++ (tW G tA tA_be tA_le tA_mo tA_rn tA_cn tA_bo tA_st (nI Wd) (nI R) thouses talways tnever (nI nr) (nI nc) tring tbeside tleast tmost trnames))) (zQm G (True) (some (.long ((xf_stills xw umayor uborn ustays Wd R thouses talways tnever tring).1))) ((xS_ G xa_ways xwA ((xf_stills xw umayor uborn ustays Wd R thouses talways tnever tring).2.1)) ++ (xA_ G xA xa_trays xa_tape x_taped x_faultKind x_faultAt xa_bad xa_refused ((xf_stills xw umayor uborn ustays Wd R thouses talways tnever tring).2.2) x_above x_under nA xa_marks x_markMany xa_pictures x_lead x_round xa_ways x_bestSet x_bestMany x_left xa_aside xa_last x_hasLived uA n_year) ++ (hW G uA tA uA_bo uA_st uA_se ulit umayor unight uoil uborn ustays useen) ++ (tW G tA tA_be tA_le tA_mo tA_rn tA_cn tA_bo tA_st (nI Wd) (nI R) thouses talways tnever (nI nr) (nI nc) tring tbeside tleast tmost trnames)) (va_A ((xS_ G xa_ways xwA xw) ++ (xA_ G xA xa_trays xa_tape x_taped x_faultKind x_faultAt xa_bad xa_refused x_status x_above x_under nA xa_marks x_markMany xa_pictures x_lead x_round xa_ways x_bestSet x_bestMany x_left xa_aside xa_last x_hasLived uA n_year) ++ (hW G uA tA uA_bo uA_st uA_se ulit umayor unight uoil uborn ustays useen) ++ (tW G tA tA_be tA_le tA_mo tA_rn tA_cn tA_bo tA_st (nI Wd) (nI R) thouses talways tnever (nI nr) (nI nc) tring tbeside tleast tmost trnames)) sz)) 0 0 (va_A ((xS_ G xa_ways xwA xw) ++ (xA_ G xA xa_trays xa_tape x_taped x_faultKind x_faultAt xa_bad xa_refused x_status x_above x_under nA xa_marks x_markMany xa_pictures x_lead x_round xa_ways x_bestSet x_bestMany x_left xa_aside xa_last x_hasLived uA n_year) ++ (hW G uA tA uA_bo uA_st uA_se ulit umayor unight uoil uborn ustays useen) ++ (tW G tA tA_be tA_le tA_mo tA_rn tA_cn tA_bo tA_st (nI Wd) (nI R) thouses talways tnever (nI nr) (nI nc) tring tbeside tleast tmost trnames)) sz) := by
  refine zr_entM (by decide) (Nat.le_of_ble_eq_true rfl) ?_
  intro p e s m below meth c ⟨hx, hb, hr, hml, hown, hts, hlocks, hnm⟩ ls hl hP hK A hE hA hD hS
  have hown : s.vm.findClass RX0 = some m.cls := hown
  have hl : lv_has ls 1 [(0, .ref xA)] := hl
  obtain ⟨H, hH⟩ : ∃ H, H = s.heap := ⟨_, rfl⟩
  obtain ⟨locs, hlo⟩ : ∃ L : List Loc, L = [] := ⟨_, rfl⟩
  rw [← hH] at hP
  have hS : va_S A s.heap H locs := by rw [hH, hlo]; exact va_S.rf
  have hgo : W p l e (zR 6 0 0) s m ([.ref xA] : List Value).toArray below meth c H locs 0 0 (MQ below (zQm G (True) (some (.long ((xf_stills xw umayor uborn ustays Wd R thouses talways tnever tring).1))) ((xS_ G xa_ways xwA ((xf_stills xw umayor uborn ustays Wd R thouses talways tnever tring).2.1)) ++ (xA_ G xA xa_trays xa_tape x_taped x_faultKind x_faultAt xa_bad xa_refused ((xf_stills xw umayor uborn ustays Wd R thouses talways tnever tring).2.2) x_above x_under nA xa_marks x_markMany xa_pictures x_lead x_round xa_ways x_bestSet x_bestMany x_left xa_aside xa_last x_hasLived uA n_year) ++ (hW G uA tA uA_bo uA_st uA_se ulit umayor unight uoil uborn ustays useen) ++ (tW G tA tA_be tA_le tA_mo tA_rn tA_cn tA_bo tA_st (nI Wd) (nI R) thouses talways tnever (nI nr) (nI nc) tring tbeside tleast tmost trnames)) A) ([.ref xA] : List Value).toArray s 0 0 A) (F0 m 0 ls []) := ?_
  · rw [hH, hlo] at hgo; exact hgo
  clear hH hlo
  have hTT := hT
  obtain ⟨hW0, hW5, hR0, hR6, hn4, hc6, hWR⟩ := hTT
  refine lv_aload_n hx hb dX0_stills_0 rfl (lv_at hl 0 rfl) ?_
  refine lv_iconst (v := 0) hx hb dX0_stills_1 (by decide) ?_
  refine va_put (D := G.1) (ci := 0) (v := .int 0) (ty := .int) (C := RX0) (T := TX0) (N := 23) hx hb hts in_X0 tyX0 tyX0_ok nmX0 hown hK.1 hP hD hS 7 rfl rfl 7 (Nat.le_of_ble_eq_true rfl) (hts _ q432) (fun _ h => h) rfl (tyX0_ok 7 (Nat.le_of_ble_eq_true rfl)) rfl rfl (Nat.le_of_ble_eq_true rfl) dX0_stills_2 (fun H locs hP hD hS => ?_)
  have hP : va_P G.1 zcl ((xS_ G xa_ways xwA xw) ++ (xA_ G xA xa_trays xa_tape x_taped x_faultKind x_faultAt xa_bad xa_refused 0 x_above x_under nA xa_marks x_markMany xa_pictures x_lead x_round xa_ways x_bestSet x_bestMany x_left xa_aside xa_last x_hasLived uA n_year) ++ (hW G uA tA uA_bo uA_st uA_se ulit umayor unight uoil uborn ustays useen) ++ (tW G tA tA_be tA_le tA_mo tA_rn tA_cn tA_bo tA_st (nI Wd) (nI R) thouses talways tnever (nI nr) (nI nc) tring tbeside tleast tmost trnames)) H := hP
  have hD : va_D A ((xS_ G xa_ways xwA xw) ++ (xA_ G xA xa_trays xa_tape x_taped x_faultKind x_faultAt xa_bad xa_refused 0 x_above x_under nA xa_marks x_markMany xa_pictures x_lead x_round xa_ways x_bestSet x_bestMany x_left xa_aside xa_last x_hasLived uA n_year) ++ (hW G uA tA uA_bo uA_st uA_se ulit umayor unight uoil uborn ustays useen) ++ (tW G tA tA_be tA_le tA_mo tA_rn tA_cn tA_bo tA_st (nI Wd) (nI R) thouses talways tnever (nI nr) (nI nc) tring tbeside tleast tmost trnames)) := hD
  refine lv_aload_n hx hb dX0_stills_5 rfl (lv_at hl 0 rfl) ?_
  refine lv_iconst (v := 0) hx hb dX0_stills_6 (by decide) ?_
  refine lv_iconst (v := 1) hx hb dX0_stills_7 (by decide) ?_
  refine zr_muV (F := xf_sum xw umayor uborn ustays Wd R thouses talways tnever tring 0 true) (ff := fun t_1 => True) (rr := fun t_1 => some (.long t_1.1)) (w1 := fun t_1 => ((xS_ G xa_ways xwA t_1.2) ++ (xA_ G xA xa_trays xa_tape x_taped x_faultKind x_faultAt xa_bad xa_refused 0 x_above x_under nA xa_marks x_markMany xa_pictures x_lead x_round xa_ways x_bestSet x_bestMany x_left xa_aside xa_last x_hasLived uA n_year) ++ (hW G uA tA uA_bo uA_st uA_se ulit umayor unight uoil uborn ustays useen) ++ (tW G tA tA_be tA_le tA_mo tA_rn tA_cn tA_bo tA_st (nI Wd) (nI R) thouses talways tnever (nI nr) (nI nc) tring tbeside tleast tmost trnames))) ⟨hx, hb, hml, hown, hts⟩ (mt_xf_sum l G xa_ways xwA xw xA xa_trays xa_tape x_taped x_faultKind x_faultAt xa_bad xa_refused 0 x_above x_under nA xa_marks x_markMany xa_pictures x_lead x_round x_bestSet x_bestMany x_left xa_aside xa_last x_hasLived uA n_year tA uA_bo uA_st uA_se ulit umayor unight uoil uborn ustays useen tA_be tA_le tA_mo tA_rn tA_cn tA_bo tA_st Wd R thouses talways tnever nr nc tring tbeside tleast tmost trnames 0 true hT hmy H.size) (cwV 2 hts (lw_V q1155 q1157 qs43 q135 q1158) rfl rfl rfl hd_X0_sum ⟨(Nat.le_of_ble_eq_true rfl), (Nat.le_of_ble_eq_true rfl)⟩) hP hD hS hA hK hE 7 0 rfl rfl rfl hl.1 rfl (Nat.le_of_ble_eq_true rfl) dX0_stills_8 ⟨Nat.le_refl _, Nat.le_refl _⟩ (fun t_1 ht_1 hft_1 H locs hP hD hS _ => ?_)
  refine W.eq (g2 := F0 m 11 ls [.long t_1.1]) rfl ?_
  have e_ : xf_stills xw umayor uborn ustays Wd R thouses talways tnever tring = (t_1.1, t_1.2, 0) := by rw [xf_stills, zlet_eq ht_1]
  exact zr_ml hx hb hr hlocks hP hD hS dX0_stills_11 (by rw [e_])  (by rw [e_]) trivial
def xf_ancestor (xw : Nat → Nat → Int64) (ulit : Int32) (umayor : Int32) (uborn : Nat → Int32) (ustays : Nat → Int32) (Wd : Nat) (R : Nat) (thouses : Int32) (talways : Int32) (tnever : Int32) (tring : Bool) : Int64 × (Nat → Nat → Int64) × Int32 :=
  zlet (xf_least xw umayor uborn ustays Wd R thouses talways tnever tring ulit false) (fun t_1 =>
  zlet (xf_answerLong t_1.1) (fun t_2 =>
  (t_2.1, t_1.2, t_2.2)))
theorem hd_X0_ancestor : yX0_ancestor.cls = RX0 ∧ yX0_ancestor.cls ≠ "java/lang/invoke/MethodHandle" ∧ yX0_ancestor.cls ≠ "java/lang/invoke/VarHandle" ∧ (parseMethodDescriptor yX0_ancestor.desc).map (fun d => d.parameters.length) = some 0 := by decide +kernel
set_option maxHeartbeats 4000000 in
set_option maxRecDepth 100000 in
theorem mt_xf_ancestor (l : Launch) (G : zG) (xa_ways : Nat) (xwA : Nat → Nat) (xw : Nat → Nat → Int64) (xA : Nat) (xa_trays : Nat) (xa_tape : Nat) (x_taped : Int32) (x_faultKind : Int32) (x_faultAt : Int32) (xa_bad : Nat) (xa_refused : Nat) (x_status : Int32) (x_above : Int64) (x_under : Int64) (nA : Nat) (xa_marks : Nat) (x_markMany : Int32) (xa_pictures : Nat) (x_lead : Int32) (x_round : Int32) (x_bestSet : Int32) (x_bestMany : Int32) (x_left : Int32) (xa_aside : Nat) (xa_last : Nat) (x_hasLived : Bool) (uA : Nat) (n_year : Option Nat) (tA : Nat) (uA_bo : Nat) (uA_st : Nat) (uA_se : Nat) (ulit : Int32) (umayor : Int32) (unight : Int32) (uoil : Int32) (uborn : Nat → Int32) (ustays : Nat → Int32) (useen : Nat → Int32) (tA_be : Nat) (tA_le : Nat) (tA_mo : Nat) (tA_rn : Nat) (tA_cn : Nat) (tA_bo : Nat) (tA_st : Nat) (Wd : Nat) (R : Nat) (thouses : Int32) (talways : Int32) (tnever : Int32) (nr : Nat) (nc : Nat) (tring : Bool) (tbeside : Nat → Int32) (tleast : Nat → Int32) (tmost : Nat → Int32) (trnames : Nat → Int64) (hT : tOK Wd R nr nc) (hmy : umayor < 0 ∨ (¬ umayor < 0 ∧ umayor.toNatClampNeg < nr)) (sz : Nat) : Met l yX0_ancestor (ws_ yX0_ancestor cX0_ancestor 1 (some .long)) (zR 6 0 0) (zPm G sz [.ref xA] ((xS_ G xa_ways xwA xw) ++ (xA_ G xA xa_trays xa_tape x_taped x_faultKind x_faultAt xa_bad xa_refused x_status x_above x_under nA xa_marks x_markMany xa_pictures x_lead x_round xa_ways x_bestSet x_bestMany x_left xa_aside xa_last x_hasLived uA n_year) ++ (hW G uA tA uA_bo uA_st uA_se ulit umayor unight uoil uborn ustays useen) ++ (tW G tA tA_be tA_le tA_mo tA_rn tA_cn tA_bo tA_st (nI Wd) (nI R) thouses talways tnever (nI nr) (nI nc) tring tbeside tleast tmost trnames))) (zQm G (True) (some (.long ((xf_ancestor xw ulit umayor uborn ustays Wd R thouses talways tnever tring).1))) ((xS_ G xa_ways xwA ((xf_ancestor xw ulit umayor uborn ustays Wd R thouses talways tnever tring).2.1)) ++ (xA_ G xA xa_trays xa_tape x_taped x_faultKind x_faultAt xa_bad xa_refused ((xf_ancestor xw ulit umayor uborn ustays Wd R thouses talways tnever tring).2.2) x_above x_under nA xa_marks x_markMany xa_pictures x_lead x_round xa_ways x_bestSet x_bestMany x_left xa_aside xa_last x_hasLived uA n_year) ++ (hW G uA tA uA_bo uA_st uA_se ulit umayor unight uoil uborn ustays useen) ++ (tW G tA tA_be tA_le tA_mo tA_rn tA_cn tA_bo tA_st (nI Wd) (nI R) thouses talways tnever (nI nr) (nI nc) tring tbeside tleast tmost trnames)) (va_A ((xS_ G xa_ways xwA xw) ++ (xA_ G xA xa_trays xa_tape x_taped x_faultKind x_faultAt xa_bad xa_refused x_status x_above x_under nA xa_marks x_markMany xa_pictures x_lead x_round xa_ways x_bestSet x_bestMany x_left xa_aside xa_last x_hasLived uA n_year) ++ (hW G uA tA uA_bo uA_st uA_se ulit umayor unight uoil uborn ustays useen) ++ (tW G tA tA_be tA_le tA_mo tA_rn tA_cn tA_bo tA_st (nI Wd) (nI R) thouses talways tnever (nI nr) (nI nc) tring tbeside tleast tmost trnames)) sz)) 0 0 (va_A ((xS_ G xa_ways xwA xw) ++ (xA_ G xA xa_trays xa_tape x_taped x_faultKind x_faultAt xa_bad xa_refused x_status x_above x_under nA xa_marks x_markMany xa_pictures x_lead x_round xa_ways x_bestSet x_bestMany x_left xa_aside xa_last x_hasLived uA n_year) ++ (hW G uA tA uA_bo uA_st uA_se ulit umayor unight uoil uborn ustays useen) ++ (tW G tA tA_be tA_le tA_mo tA_rn tA_cn tA_bo tA_st (nI Wd) (nI R) thouses talways tnever (nI nr) (nI nc) tring tbeside tleast tmost trnames)) sz) := by
  refine zr_entM (by decide) (Nat.le_of_ble_eq_true rfl) ?_
  intro p e s m below meth c ⟨hx, hb, hr, hml, hown, hts, hlocks, hnm⟩ ls hl hP hK A hE hA hD hS
  have hown : s.vm.findClass RX0 = some m.cls := hown
  have hl : lv_has ls 1 [(0, .ref xA)] := hl
  obtain ⟨H, hH⟩ : ∃ H, H = s.heap := ⟨_, rfl⟩
  obtain ⟨locs, hlo⟩ : ∃ L : List Loc, L = [] := ⟨_, rfl⟩
  rw [← hH] at hP
  have hS : va_S A s.heap H locs := by rw [hH, hlo]; exact va_S.rf
  have hgo : W p l e (zR 6 0 0) s m ([.ref xA] : List Value).toArray below meth c H locs 0 0 (MQ below (zQm G (True) (some (.long ((xf_ancestor xw ulit umayor uborn ustays Wd R thouses talways tnever tring).1))) ((xS_ G xa_ways xwA ((xf_ancestor xw ulit umayor uborn ustays Wd R thouses talways tnever tring).2.1)) ++ (xA_ G xA xa_trays xa_tape x_taped x_faultKind x_faultAt xa_bad xa_refused ((xf_ancestor xw ulit umayor uborn ustays Wd R thouses talways tnever tring).2.2) x_above x_under nA xa_marks x_markMany xa_pictures x_lead x_round xa_ways x_bestSet x_bestMany x_left xa_aside xa_last x_hasLived uA n_year) ++ (hW G uA tA uA_bo uA_st uA_se ulit umayor unight uoil uborn ustays useen) ++ (tW G tA tA_be tA_le tA_mo tA_rn tA_cn tA_bo tA_st (nI Wd) (nI R) thouses talways tnever (nI nr) (nI nc) tring tbeside tleast tmost trnames)) A) ([.ref xA] : List Value).toArray s 0 0 A) (F0 m 0 ls []) := ?_
  · rw [hH, hlo] at hgo; exact hgo
  clear hH hlo
  have hTT := hT
  obtain ⟨hW0, hW5, hR0, hR6, hn4, hc6, hWR⟩ := hTT
  refine lv_aload_n hx hb dX0_ancestor_0 rfl (lv_at hl 0 rfl) ?_
  refine lv_aload_n hx hb dX0_ancestor_1 rfl (lv_at hl 0 rfl) ?_
  refine lv_aload_n hx hb dX0_ancestor_2 rfl (lv_at hl 0 rfl) ?_
  refine zr_obV ⟨hx, hb, hml, hown, hts⟩ (mt_xf_hill l G xA xa_trays xa_tape x_taped x_faultKind x_faultAt xa_bad xa_refused x_status x_above x_under nA xa_marks x_markMany xa_pictures x_lead x_round xa_ways x_bestSet x_bestMany x_left xa_aside xa_last x_hasLived uA n_year tA uA_bo uA_st uA_se ulit umayor unight uoil uborn ustays useen tA_be tA_le tA_mo tA_rn tA_cn tA_bo tA_st Wd R thouses talways tnever nr nc tring tbeside tleast tmost trnames hT) (cwV 0 hts (lw_V q841 q843 qs26 q135 q844) rfl rfl rfl hd_X0_hill ⟨(Nat.le_of_ble_eq_true rfl), (Nat.le_of_ble_eq_true rfl)⟩) (zP_sub hP (ws' := ((xA_ G xA xa_trays xa_tape x_taped x_faultKind x_faultAt xa_bad xa_refused x_status x_above x_under nA xa_marks x_markMany xa_pictures x_lead x_round xa_ways x_bestSet x_bestMany x_left xa_aside xa_last x_hasLived uA n_year) ++ (hW G uA tA uA_bo uA_st uA_se ulit umayor unight uoil uborn ustays useen) ++ (tW G tA tA_be tA_le tA_mo tA_rn tA_cn tA_bo tA_st (nI Wd) (nI R) thouses talways tnever (nI nr) (nI nc) tring tbeside tleast tmost trnames))) [7, 8, 9, 10, 11, 12, 13, 14, 15, 16, 17] rfl) hK (zE_o hE hS) 0 0 rfl rfl rfl hl.1 rfl (Nat.le_of_ble_eq_true rfl) dX0_ancestor_3 ⟨Nat.le_refl _, Nat.le_refl _⟩ ?_
  refine va_getN (D := G.1) (ci := 5) (v := .int ulit) (C := RX5) (T := TX5) (N := 8) hx hb hts in_X5 hown hK.1 hP 9 rfl rfl 4 (Nat.le_of_ble_eq_true rfl) ((hK.2.1.1 _ (List.mem_of_getElem? (i := 14) rfl)).use rfl) (fun _ h => h) rfl dX0_ancestor_6 ?_
  refine lv_iconst (v := 0) hx hb dX0_ancestor_9 (by decide) ?_
  refine zr_muV (F := xf_least xw umayor uborn ustays Wd R thouses talways tnever tring ulit false) (ff := fun t_1 => True) (rr := fun t_1 => some (.long t_1.1)) (w1 := fun t_1 => ((xS_ G xa_ways xwA t_1.2) ++ (xA_ G xA xa_trays xa_tape x_taped x_faultKind x_faultAt xa_bad xa_refused x_status x_above x_under nA xa_marks x_markMany xa_pictures x_lead x_round xa_ways x_bestSet x_bestMany x_left xa_aside xa_last x_hasLived uA n_year) ++ (hW G uA tA uA_bo uA_st uA_se ulit umayor unight uoil uborn ustays useen) ++ (tW G tA tA_be tA_le tA_mo tA_rn tA_cn tA_bo tA_st (nI Wd) (nI R) thouses talways tnever (nI nr) (nI nc) tring tbeside tleast tmost trnames))) ⟨hx, hb, hml, hown, hts⟩ (mt_xf_least l G xa_ways xwA xw xA xa_trays xa_tape x_taped x_faultKind x_faultAt xa_bad xa_refused x_status x_above x_under nA xa_marks x_markMany xa_pictures x_lead x_round x_bestSet x_bestMany x_left xa_aside xa_last x_hasLived uA n_year tA uA_bo uA_st uA_se ulit umayor unight uoil uborn ustays useen tA_be tA_le tA_mo tA_rn tA_cn tA_bo tA_st Wd R thouses talways tnever nr nc tring tbeside tleast tmost trnames ulit false hT hmy H.size) (cwV 2 hts (lw_V q1176 q1178 qs47 q135 q1179) rfl rfl rfl hd_X0_least ⟨(Nat.le_of_ble_eq_true rfl), (Nat.le_of_ble_eq_true rfl)⟩) hP hD hS hA hK hE 7 0 rfl rfl rfl hl.1 rfl (Nat.le_of_ble_eq_true rfl) dX0_ancestor_10 ⟨Nat.le_refl _, Nat.le_refl _⟩ (fun t_1 ht_1 hft_1 H locs hP hD hS _ => ?_)
  refine W.eq (g2 := F0 m 13 ls [.long t_1.1, .ref xA]) rfl ?_
  refine zr_muVs (F := xf_answerLong t_1.1) (ff := fun t_2 => True) (rr := fun t_2 => some (.long t_2.1)) (w1 := fun t_2 => ((xA_ G xA xa_trays xa_tape x_taped x_faultKind x_faultAt xa_bad xa_refused t_2.2 x_above x_under nA xa_marks x_markMany xa_pictures x_lead x_round xa_ways x_bestSet x_bestMany x_left xa_aside xa_last x_hasLived uA n_year) ++ (hW G uA tA uA_bo uA_st uA_se ulit umayor unight uoil uborn ustays useen) ++ (tW G tA tA_be tA_le tA_mo tA_rn tA_cn tA_bo tA_st (nI Wd) (nI R) thouses talways tnever (nI nr) (nI nc) tring tbeside tleast tmost trnames))) (wn := fun t_2 => ((xS_ G xa_ways xwA t_1.2) ++ (xA_ G xA xa_trays xa_tape x_taped x_faultKind x_faultAt xa_bad xa_refused t_2.2 x_above x_under nA xa_marks x_markMany xa_pictures x_lead x_round xa_ways x_bestSet x_bestMany x_left xa_aside xa_last x_hasLived uA n_year) ++ (hW G uA tA uA_bo uA_st uA_se ulit umayor unight uoil uborn ustays useen) ++ (tW G tA tA_be tA_le tA_mo tA_rn tA_cn tA_bo tA_st (nI Wd) (nI R) thouses talways tnever (nI nr) (nI nc) tring tbeside tleast tmost trnames))) (wr := [(xa_ways, .inl (G.2 7, 6, .inr (.inr (.inr (.inr (fun k => some (xwA k))))))), (xwA 0, .inl (G.2 1, 1024, .inr (.inl (t_1.2 0)))), (xwA 1, .inl (G.2 1, 1024, .inr (.inl (t_1.2 1)))), (xwA 2, .inl (G.2 1, 1024, .inr (.inl (t_1.2 2)))), (xwA 3, .inl (G.2 1, 1024, .inr (.inl (t_1.2 3)))), (xwA 4, .inl (G.2 1, 1024, .inr (.inl (t_1.2 4)))), (xwA 5, .inl (G.2 1, 1024, .inr (.inl (t_1.2 5))))]) [7, 8, 9, 10, 11, 12, 13, 14, 15, 16, 17] [0, 1, 2, 3, 4, 5, 6] [0, 1, 2, 3, 4, 5, 6, 7, 8, 9, 10, 11, 12, 13, 14, 15, 16, 17] rfl rfl rfl rfl (by decide) rfl (fun _ => rfl) ⟨hx, hb, hml, hown, hts⟩ (mt_xf_answerLong l G xA xa_trays xa_tape x_taped x_faultKind x_faultAt xa_bad xa_refused x_status x_above x_under nA xa_marks x_markMany xa_pictures x_lead x_round xa_ways x_bestSet x_bestMany x_left xa_aside xa_last x_hasLived uA n_year tA uA_bo uA_st uA_se ulit umayor unight uoil uborn ustays useen tA_be tA_le tA_mo tA_rn tA_cn tA_bo tA_st Wd R thouses talways tnever nr nc tring tbeside tleast tmost trnames t_1.1 hT H.size) (cwV 1 hts (lw_V q1180 q1182 qs48 q135 q1183) rfl rfl rfl hd_X0_answerLong ⟨(Nat.le_of_ble_eq_true rfl), (Nat.le_of_ble_eq_true rfl)⟩) hP hD hS hA hK hE 0 rfl rfl rfl hl.1 rfl (Nat.le_of_ble_eq_true rfl) dX0_ancestor_13 ⟨Nat.le_refl _, Nat.le_refl _⟩ (fun t_2 ht_2 hft_2 H locs hP hD hS _ => ?_)
  refine W.eq (g2 := F0 m 16 ls [.long t_2.1]) rfl ?_
  have e_ : xf_ancestor xw ulit umayor uborn ustays Wd R thouses talways tnever tring = (t_2.1, t_1.2, t_2.2) := by rw [xf_ancestor, zlet_eq ht_1, zlet_eq ht_2]
  exact zr_ml hx hb hr hlocks hP hD hS dX0_ancestor_16 (by rw [e_])  (by rw [e_]) trivial
def xf_firstStill (xw : Nat → Nat → Int64) (umayor : Int32) (uborn : Nat → Int32) (ustays : Nat → Int32) (Wd : Nat) (R : Nat) (thouses : Int32) (talways : Int32) (tnever : Int32) (tring : Bool) : Int64 × (Nat → Nat → Int64) × Int32 :=
  zlet (xf_least xw umayor uborn ustays Wd R thouses talways tnever tring 0 true) (fun t_1 =>
  zlet (xf_answerLong t_1.1) (fun t_2 =>
  (t_2.1, t_1.2, t_2.2)))
theorem hd_X0_firstStill : yX0_firstStill.cls = RX0 ∧ yX0_firstStill.cls ≠ "java/lang/invoke/MethodHandle" ∧ yX0_firstStill.cls ≠ "java/lang/invoke/VarHandle" ∧ (parseMethodDescriptor yX0_firstStill.desc).map (fun d => d.parameters.length) = some 0 := by decide +kernel
set_option maxHeartbeats 4000000 in
set_option maxRecDepth 100000 in
theorem mt_xf_firstStill (l : Launch) (G : zG) (xa_ways : Nat) (xwA : Nat → Nat) (xw : Nat → Nat → Int64) (xA : Nat) (xa_trays : Nat) (xa_tape : Nat) (x_taped : Int32) (x_faultKind : Int32) (x_faultAt : Int32) (xa_bad : Nat) (xa_refused : Nat) (x_status : Int32) (x_above : Int64) (x_under : Int64) (nA : Nat) (xa_marks : Nat) (x_markMany : Int32) (xa_pictures : Nat) (x_lead : Int32) (x_round : Int32) (x_bestSet : Int32) (x_bestMany : Int32) (x_left : Int32) (xa_aside : Nat) (xa_last : Nat) (x_hasLived : Bool) (uA : Nat) (n_year : Option Nat) (tA : Nat) (uA_bo : Nat) (uA_st : Nat) (uA_se : Nat) (ulit : Int32) (umayor : Int32) (unight : Int32) (uoil : Int32) (uborn : Nat → Int32) (ustays : Nat → Int32) (useen : Nat → Int32) (tA_be : Nat) (tA_le : Nat) (tA_mo : Nat) (tA_rn : Nat) (tA_cn : Nat) (tA_bo : Nat) (tA_st : Nat) (Wd : Nat) (R : Nat) (thouses : Int32) (talways : Int32) (tnever : Int32) (nr : Nat) (nc : Nat) (tring : Bool) (tbeside : Nat → Int32) (tleast : Nat → Int32) (tmost : Nat → Int32) (trnames : Nat → Int64) (hT : tOK Wd R nr nc) (hmy : umayor < 0 ∨ (¬ umayor < 0 ∧ umayor.toNatClampNeg < nr)) (sz : Nat) : Met l yX0_firstStill (ws_ yX0_firstStill cX0_firstStill 1 (some .long)) (zR 6 0 0) (zPm G sz [.ref xA] ((xS_ G xa_ways xwA xw) ++ (xA_ G xA xa_trays xa_tape x_taped x_faultKind x_faultAt xa_bad xa_refused x_status x_above x_under nA xa_marks x_markMany xa_pictures x_lead x_round xa_ways x_bestSet x_bestMany x_left xa_aside xa_last x_hasLived uA n_year) ++ (hW G uA tA uA_bo uA_st uA_se ulit umayor unight uoil uborn ustays useen) ++ (tW G tA tA_be tA_le tA_mo tA_rn tA_cn tA_bo tA_st (nI Wd) (nI R) thouses talways tnever (nI nr) (nI nc) tring tbeside tleast tmost trnames))) (zQm G (True) (some (.long ((xf_firstStill xw umayor uborn ustays Wd R thouses talways tnever tring).1))) ((xS_ G xa_ways xwA ((xf_firstStill xw umayor uborn ustays Wd R thouses talways tnever tring).2.1)) ++ (xA_ G xA xa_trays xa_tape x_taped x_faultKind x_faultAt xa_bad xa_refused ((xf_firstStill xw umayor uborn ustays Wd R thouses talways tnever tring).2.2) x_above x_under nA xa_marks x_markMany xa_pictures x_lead x_round xa_ways x_bestSet x_bestMany x_left xa_aside xa_last x_hasLived uA n_year) ++ (hW G uA tA uA_bo uA_st uA_se ulit umayor unight uoil uborn ustays useen) ++ (tW G tA tA_be tA_le tA_mo tA_rn tA_cn tA_bo tA_st (nI Wd) (nI R) thouses talways tnever (nI nr) (nI nc) tring tbeside tleast tmost trnames)) (va_A ((xS_ G xa_ways xwA xw) ++ (xA_ G xA xa_trays xa_tape x_taped x_faultKind x_faultAt xa_bad xa_refused x_status x_above x_under nA xa_marks x_markMany xa_pictures x_lead x_round xa_ways x_bestSet x_bestMany x_left xa_aside xa_last x_hasLived uA n_year) ++ (hW G uA tA uA_bo uA_st uA_se ulit umayor unight uoil uborn ustays useen) ++ (tW G tA tA_be tA_le tA_mo tA_rn tA_cn tA_bo tA_st (nI Wd) (nI R) thouses talways tnever (nI nr) (nI nc) tring tbeside tleast tmost trnames)) sz)) 0 0 (va_A ((xS_ G xa_ways xwA xw) ++ (xA_ G xA xa_trays xa_tape x_taped x_faultKind x_faultAt xa_bad xa_refused x_status x_above x_under nA xa_marks x_markMany xa_pictures x_lead x_round xa_ways x_bestSet x_bestMany x_left xa_aside xa_last x_hasLived uA n_year) ++ (hW G uA tA uA_bo uA_st uA_se ulit umayor unight uoil uborn ustays useen) ++ (tW G tA tA_be tA_le tA_mo tA_rn tA_cn tA_bo tA_st (nI Wd) (nI R) thouses talways tnever (nI nr) (nI nc) tring tbeside tleast tmost trnames)) sz) := by
  refine zr_entM (by decide) (Nat.le_of_ble_eq_true rfl) ?_
  intro p e s m below meth c ⟨hx, hb, hr, hml, hown, hts, hlocks, hnm⟩ ls hl hP hK A hE hA hD hS
  have hown : s.vm.findClass RX0 = some m.cls := hown
  have hl : lv_has ls 1 [(0, .ref xA)] := hl
  obtain ⟨H, hH⟩ : ∃ H, H = s.heap := ⟨_, rfl⟩
  obtain ⟨locs, hlo⟩ : ∃ L : List Loc, L = [] := ⟨_, rfl⟩
  rw [← hH] at hP
  have hS : va_S A s.heap H locs := by rw [hH, hlo]; exact va_S.rf
  have hgo : W p l e (zR 6 0 0) s m ([.ref xA] : List Value).toArray below meth c H locs 0 0 (MQ below (zQm G (True) (some (.long ((xf_firstStill xw umayor uborn ustays Wd R thouses talways tnever tring).1))) ((xS_ G xa_ways xwA ((xf_firstStill xw umayor uborn ustays Wd R thouses talways tnever tring).2.1)) ++ (xA_ G xA xa_trays xa_tape x_taped x_faultKind x_faultAt xa_bad xa_refused ((xf_firstStill xw umayor uborn ustays Wd R thouses talways tnever tring).2.2) x_above x_under nA xa_marks x_markMany xa_pictures x_lead x_round xa_ways x_bestSet x_bestMany x_left xa_aside xa_last x_hasLived uA n_year) ++ (hW G uA tA uA_bo uA_st uA_se ulit umayor unight uoil uborn ustays useen) ++ (tW G tA tA_be tA_le tA_mo tA_rn tA_cn tA_bo tA_st (nI Wd) (nI R) thouses talways tnever (nI nr) (nI nc) tring tbeside tleast tmost trnames)) A) ([.ref xA] : List Value).toArray s 0 0 A) (F0 m 0 ls []) := ?_
  · rw [hH, hlo] at hgo; exact hgo
  clear hH hlo
  have hTT := hT
  obtain ⟨hW0, hW5, hR0, hR6, hn4, hc6, hWR⟩ := hTT
  refine lv_aload_n hx hb dX0_firstStill_0 rfl (lv_at hl 0 rfl) ?_
  refine lv_aload_n hx hb dX0_firstStill_1 rfl (lv_at hl 0 rfl) ?_
  refine lv_iconst (v := 0) hx hb dX0_firstStill_2 (by decide) ?_
  refine lv_iconst (v := 1) hx hb dX0_firstStill_3 (by decide) ?_
  refine zr_muV (F := xf_least xw umayor uborn ustays Wd R thouses talways tnever tring 0 true) (ff := fun t_1 => True) (rr := fun t_1 => some (.long t_1.1)) (w1 := fun t_1 => ((xS_ G xa_ways xwA t_1.2) ++ (xA_ G xA xa_trays xa_tape x_taped x_faultKind x_faultAt xa_bad xa_refused x_status x_above x_under nA xa_marks x_markMany xa_pictures x_lead x_round xa_ways x_bestSet x_bestMany x_left xa_aside xa_last x_hasLived uA n_year) ++ (hW G uA tA uA_bo uA_st uA_se ulit umayor unight uoil uborn ustays useen) ++ (tW G tA tA_be tA_le tA_mo tA_rn tA_cn tA_bo tA_st (nI Wd) (nI R) thouses talways tnever (nI nr) (nI nc) tring tbeside tleast tmost trnames))) ⟨hx, hb, hml, hown, hts⟩ (mt_xf_least l G xa_ways xwA xw xA xa_trays xa_tape x_taped x_faultKind x_faultAt xa_bad xa_refused x_status x_above x_under nA xa_marks x_markMany xa_pictures x_lead x_round x_bestSet x_bestMany x_left xa_aside xa_last x_hasLived uA n_year tA uA_bo uA_st uA_se ulit umayor unight uoil uborn ustays useen tA_be tA_le tA_mo tA_rn tA_cn tA_bo tA_st Wd R thouses talways tnever nr nc tring tbeside tleast tmost trnames 0 true hT hmy H.size) (cwV 2 hts (lw_V q1176 q1178 qs47 q135 q1179) rfl rfl rfl hd_X0_least ⟨(Nat.le_of_ble_eq_true rfl), (Nat.le_of_ble_eq_true rfl)⟩) hP hD hS hA hK hE 7 0 rfl rfl rfl hl.1 rfl (Nat.le_of_ble_eq_true rfl) dX0_firstStill_4 ⟨Nat.le_refl _, Nat.le_refl _⟩ (fun t_1 ht_1 hft_1 H locs hP hD hS _ => ?_)
  refine W.eq (g2 := F0 m 7 ls [.long t_1.1, .ref xA]) rfl ?_
  refine zr_muVs (F := xf_answerLong t_1.1) (ff := fun t_2 => True) (rr := fun t_2 => some (.long t_2.1)) (w1 := fun t_2 => ((xA_ G xA xa_trays xa_tape x_taped x_faultKind x_faultAt xa_bad xa_refused t_2.2 x_above x_under nA xa_marks x_markMany xa_pictures x_lead x_round xa_ways x_bestSet x_bestMany x_left xa_aside xa_last x_hasLived uA n_year) ++ (hW G uA tA uA_bo uA_st uA_se ulit umayor unight uoil uborn ustays useen) ++ (tW G tA tA_be tA_le tA_mo tA_rn tA_cn tA_bo tA_st (nI Wd) (nI R) thouses talways tnever (nI nr) (nI nc) tring tbeside tleast tmost trnames))) (wn := fun t_2 => ((xS_ G xa_ways xwA t_1.2) ++ (xA_ G xA xa_trays xa_tape x_taped x_faultKind x_faultAt xa_bad xa_refused t_2.2 x_above x_under nA xa_marks x_markMany xa_pictures x_lead x_round xa_ways x_bestSet x_bestMany x_left xa_aside xa_last x_hasLived uA n_year) ++ (hW G uA tA uA_bo uA_st uA_se ulit umayor unight uoil uborn ustays useen) ++ (tW G tA tA_be tA_le tA_mo tA_rn tA_cn tA_bo tA_st (nI Wd) (nI R) thouses talways tnever (nI nr) (nI nc) tring tbeside tleast tmost trnames))) (wr := [(xa_ways, .inl (G.2 7, 6, .inr (.inr (.inr (.inr (fun k => some (xwA k))))))), (xwA 0, .inl (G.2 1, 1024, .inr (.inl (t_1.2 0)))), (xwA 1, .inl (G.2 1, 1024, .inr (.inl (t_1.2 1)))), (xwA 2, .inl (G.2 1, 1024, .inr (.inl (t_1.2 2)))), (xwA 3, .inl (G.2 1, 1024, .inr (.inl (t_1.2 3)))), (xwA 4, .inl (G.2 1, 1024, .inr (.inl (t_1.2 4)))), (xwA 5, .inl (G.2 1, 1024, .inr (.inl (t_1.2 5))))]) [7, 8, 9, 10, 11, 12, 13, 14, 15, 16, 17] [0, 1, 2, 3, 4, 5, 6] [0, 1, 2, 3, 4, 5, 6, 7, 8, 9, 10, 11, 12, 13, 14, 15, 16, 17] rfl rfl rfl rfl (by decide) rfl (fun _ => rfl) ⟨hx, hb, hml, hown, hts⟩ (mt_xf_answerLong l G xA xa_trays xa_tape x_taped x_faultKind x_faultAt xa_bad xa_refused x_status x_above x_under nA xa_marks x_markMany xa_pictures x_lead x_round xa_ways x_bestSet x_bestMany x_left xa_aside xa_last x_hasLived uA n_year tA uA_bo uA_st uA_se ulit umayor unight uoil uborn ustays useen tA_be tA_le tA_mo tA_rn tA_cn tA_bo tA_st Wd R thouses talways tnever nr nc tring tbeside tleast tmost trnames t_1.1 hT H.size) (cwV 1 hts (lw_V q1180 q1182 qs48 q135 q1183) rfl rfl rfl hd_X0_answerLong ⟨(Nat.le_of_ble_eq_true rfl), (Nat.le_of_ble_eq_true rfl)⟩) hP hD hS hA hK hE 0 rfl rfl rfl hl.1 rfl (Nat.le_of_ble_eq_true rfl) dX0_firstStill_7 ⟨Nat.le_refl _, Nat.le_refl _⟩ (fun t_2 ht_2 hft_2 H locs hP hD hS _ => ?_)
  refine W.eq (g2 := F0 m 10 ls [.long t_2.1]) rfl ?_
  have e_ : xf_firstStill xw umayor uborn ustays Wd R thouses talways tnever tring = (t_2.1, t_1.2, t_2.2) := by rw [xf_firstStill, zlet_eq ht_1, zlet_eq ht_2]
  exact zr_ml hx hb hr hlocks hP hD hS dX0_firstStill_10 (by rw [e_])  (by rw [e_]) trivial
