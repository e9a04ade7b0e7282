theorem elects_my {ulit umayor : Int32} {uborn ustays : Nat → Int32} {Wd R : Nat} {thouses talways tnever : Int32} {nr nc : Nat} {tbeside tleast tmost : Nat → Int32} {t : Bool × Int32} (h : hf_elects ulit umayor uborn ustays Wd R thouses talways tnever nr nc tbeside tleast tmost = t) (hm : umayor < 0 ∨ (¬ umayor < 0 ∧ umayor.toNatClampNeg < nr)) (hn : nr ≤ 4) : t.2 < 0 ∨ (¬ t.2 < 0 ∧ t.2.toNatClampNeg < nr) := by
  subst h
  unfold hf_elects zlet
  split
  · exact hm
  · split
    · exact hm
    · have key : (hf_elects_L26 ulit uborn ustays Wd R thouses talways tnever nr nc tbeside tleast tmost (1, 0)).2 < nr := by
        unfold hf_elects_L26
        refine zw_inv (fun s : Nat × Nat => s.2 < nr) (fun s : Nat × Nat => s.2 < nr) ?_ ?_ (by show 0 < nr; omega) _ _ (by show 0 < nr; omega)
        · intro s s' h hs
          unfold hf_elects_B26 at hs
          split at hs
          · cases hs
          · split at hs
            · cases hs; exact h
            · cases hs
              show s.1 < nr
              omega
        · intro s r h hs
          unfold hf_elects_B26 at hs
          split at hs
          · cases hs; exact h
          · split at hs <;> cases hs
      exact Or.inr ⟨nI_pos (by omega), by rw [nI_clamp (by omega)]; exact key⟩
def lW_ (G : zG) (lA : Nat) (uA : Nat) (l_state : Int32) (l_done : Int32) (l_missed : Int32) (l_nights : Int32) (l_storms : Int32) (l_births : Int32) (l_over : Bool) (l_left : Bool) : va_W := [(lA, .inr (12, [.ref uA, .int l_state, .int l_done, .int l_missed, .int l_nights, .int l_storms, .int l_births, .int (zb l_over), .int (zb l_left)]))]
def aW_ (G : zG) (aA : Nat) (a_what : Int32) (a_num : Int32) : va_W := [(aA, .inr (11, [.int a_what, .int a_num]))]
def wW_ (G : zG) (wA : Nat) (w_st : Nat) (w_size : Int32) (w_what : Int32) (w_num : Int32) (w_sign : Int32) : va_W := [(wA, .inr (10, [.ref w_st, .int w_size, .int w_what, .int w_num, .int w_sign]))]
def yf_draw (l_state : Int32) (db : Int32) : Int32 × Int32 :=
  (((((l_state * 2879) + 11083) - ((l_state * 2879) + 11083) / 65536 * 65536) / 8) - ((((l_state * 2879) + 11083) - ((l_state * 2879) + 11083) / 65536 * 65536) / 8) / db * db, ((l_state * 2879) + 11083) - ((l_state * 2879) + 11083) / 65536 * 65536)
theorem hd_X14_draw : yX14_draw.cls = RX14 ∧ yX14_draw.cls ≠ "java/lang/invoke/MethodHandle" ∧ yX14_draw.cls ≠ "java/lang/invoke/VarHandle" ∧ (parseMethodDescriptor yX14_draw.desc).map (fun d => d.parameters.length) = some 1 := by decide +kernel
set_option maxHeartbeats 4000000 in
set_option maxRecDepth 100000 in
theorem mt_yf_draw (l : Launch) (G : zG) (lA : Nat) (uA : Nat) (l_state : Int32) (l_done : Int32) (l_missed : Int32) (l_nights : Int32) (l_storms : Int32) (l_births : Int32) (l_over : Bool) (l_left : Bool) (db : Int32) (hdb : ¬ db = 0) (sz : Nat) : Met l yX14_draw (ws_ yX14_draw cX14_draw 2 (some .int)) (zR 1 0 0) (zPm G sz [.ref lA, .int db] (lW_ G lA uA l_state l_done l_missed l_nights l_storms l_births l_over l_left)) (zQm G (True) (some (.int ((yf_draw l_state db).1))) (lW_ G lA uA ((yf_draw l_state db).2) l_done l_missed l_nights l_storms l_births l_over l_left) (va_A (lW_ G lA uA l_state l_done l_missed l_nights l_storms l_births l_over l_left) sz)) 0 0 (va_A (lW_ G lA uA l_state l_done l_missed l_nights l_storms l_births l_over l_left) sz) := by
  refine zr_entM (by decide) (Nat.le_of_ble_eq_true rfl) ?_
  intro p e s m below meth c ⟨hx, hb, hr, hml, hown, hts, hlocks, hnm⟩ ls hl hP hK A hE hA hD hS
  have hown : s.vm.findClass RX14 = some m.cls := hown
  have hl : lv_has ls 2 [(0, .ref lA), (1, .int db)] := hl
  obtain ⟨H, hH⟩ : ∃ H, H = s.heap := ⟨_, rfl⟩
  obtain ⟨locs, hlo⟩ : ∃ L : List Loc, L = [] := ⟨_, rfl⟩
  rw [← hH] at hP
  have hS : va_S A s.heap H locs := by rw [hH, hlo]; exact va_S.rf
  have hgo : W p l e (zR 1 0 0) s m ([.ref lA, .int db] : List Value).toArray below meth c H locs 0 0 (MQ below (zQm G (True) (some (.int ((yf_draw l_state db).1))) (lW_ G lA uA ((yf_draw l_state db).2) l_done l_missed l_nights l_storms l_births l_over l_left) A) ([.ref lA, .int db] : List Value).toArray s 0 0 A) (F0 m 0 ls []) := ?_
  · rw [hH, hlo] at hgo; exact hgo
  clear hH hlo
  refine lv_aload_n hx hb dX14_draw_0 rfl (lv_at hl 0 rfl) ?_
  refine lv_aload_n hx hb dX14_draw_1 rfl (lv_at hl 0 rfl) ?_
  refine va_get (D := G.1) (ci := 12) (v := .int l_state) (C := RX14) (T := TX14) (N := 9) hx hb hts in_X14 hown hK.1 hP 0 rfl rfl 1 (Nat.le_of_ble_eq_true rfl) (hts _ q1338) (fun _ h => h) rfl dX14_draw_2 ?_
  refine lv_sipush (v := 2879) hx hb dX14_draw_5 (by decide) ?_
  refine lv_imul hx hb dX14_draw_8 ?_
  refine lv_sipush (v := 11083) hx hb dX14_draw_9 (by decide) ?_
  refine lv_iadd hx hb dX14_draw_12 ?_
  refine lv_ldc (v := 65536) hx hb hown (hts _ q1409) dX14_draw_13 ?_
  refine lv_irem hx hb dX14_draw_15 (by decide) ?_
  refine va_put (D := G.1) (ci := 12) (v := .int (((l_state * 2879) + 11083) - ((l_state * 2879) + 11083) / 65536 * 65536)) (ty := .int) (C := RX14) (T := TX14) (N := 9) hx hb hts in_X14 tyX14 tyX14_ok nmX14 hown hK.1 hP hD hS 0 rfl rfl 1 (Nat.le_of_ble_eq_true rfl) (hts _ q1338) (fun _ h => h) rfl (tyX14_ok 1 (Nat.le_of_ble_eq_true rfl)) rfl rfl (Nat.le_of_ble_eq_true rfl) dX14_draw_16 (fun H locs hP hD hS => ?_)
  have hP : va_P G.1 zcl (lW_ G lA uA (((l_state * 2879) + 11083) - ((l_state * 2879) + 11083) / 65536 * 65536) l_done l_missed l_nights l_storms l_births l_over l_left) H := hP
  have hD : va_D A (lW_ G lA uA (((l_state * 2879) + 11083) - ((l_state * 2879) + 11083) / 65536 * 65536) l_done l_missed l_nights l_storms l_births l_over l_left) := hD
  refine lv_aload_n hx hb dX14_draw_19 rfl (lv_at hl 0 rfl) ?_
  refine va_get (D := G.1) (ci := 12) (v := .int (((l_state * 2879) + 11083) - ((l_state * 2879) + 11083) / 65536 * 65536)) (C := RX14) (T := TX14) (N := 9) hx hb hts in_X14 hown hK.1 hP 0 rfl rfl 1 (Nat.le_of_ble_eq_true rfl) (hts _ q1338) (fun _ h => h) rfl dX14_draw_20 ?_
  refine lv_bipush (v := 8) hx hb dX14_draw_23 (by decide) ?_
  refine lv_idiv hx hb dX14_draw_25 (by decide) ?_
  refine lv_iload_n hx hb dX14_draw_26 rfl (lv_at hl 1 rfl) ?_
  refine lv_irem hx hb dX14_draw_27 hdb ?_
  have e_ : yf_draw l_state db = (((((l_state * 2879) + 11083) - ((l_state * 2879) + 11083) / 65536 * 65536) / 8) - ((((l_state * 2879) + 11083) - ((l_state * 2879) + 11083) / 65536 * 65536) / 8) / db * db, ((l_state * 2879) + 11083) - ((l_state * 2879) + 11083) / 65536 * 65536) := by rw [yf_draw]
  exact zr_mi hx hb hr hlocks hP hD hS dX14_draw_28 (by rw [e_])  (by rw [e_]) trivial
def yf_storm_B16 (an : Nat) (ulit : Int32) (Wd : Nat) (R : Nat) (thouses : Int32) (talways : Int32) (tnever : Int32) (k_1 : Nat) (s_1 : Int32 × Int32 × Int32) : Int32 × Int32 × Int32 :=
  (if (((ulit &&& (thouses &&& ((talways ||| tnever) ^^^ (-1)))) >>> ((nI k_1) &&& 31)) &&& 1) = 0 then
    (s_1.1, s_1.2.1, s_1.2.2)
  else
    zlet (yf_draw s_1.1 16) (fun t_3 =>
    (if t_3.1 < (nI an) then
      (t_3.2, s_1.2.1 + 1, s_1.2.2 &&& (((1 : Int32) <<< ((nI k_1) &&& 31)) ^^^ (-1)))
    else
      (t_3.2, s_1.2.1, s_1.2.2))))
def yf_storm_L16 (an : Nat) (ulit : Int32) (Wd : Nat) (R : Nat) (thouses : Int32) (talways : Int32) (tnever : Int32) (s_1 : Int32 × Int32 × Int32) : Int32 × Int32 × Int32 := zf (yf_storm_B16 an ulit Wd R thouses talways tnever) s_1 (Wd * R)
def yf_storm (an : Nat) (l_state : Int32) (l_storms : Int32) (ulit : Int32) (Wd : Nat) (R : Nat) (thouses : Int32) (talways : Int32) (tnever : Int32) : Int32 × Int32 × Int32 :=
  zlet (yf_storm_L16 an ulit Wd R thouses talways tnever (l_state, l_storms, ulit)) (fun s_1 =>
  (s_1.1, s_1.2.1, s_1.2.2))
theorem hd_X13_storm : yX13_storm.cls = RX13 ∧ yX13_storm.cls ≠ "java/lang/invoke/MethodHandle" ∧ yX13_storm.cls ≠ "java/lang/invoke/VarHandle" ∧ (parseMethodDescriptor yX13_storm.desc).map (fun d => d.parameters.length) = some 2 := by decide +kernel
set_option maxHeartbeats 4000000 in
set_option maxRecDepth 100000 in
theorem mt_yf_storm (l : Launch) (G : zG) (aA : Nat) (a_what : Int32) (an : Nat) (lA : Nat) (uA : Nat) (l_state : Int32) (l_done : Int32) (l_missed : Int32) (l_nights : Int32) (l_storms : Int32) (l_births : Int32) (l_over : Bool) (l_left : Bool) (tA : Nat) (uA_bo : Nat) (uA_st : Nat) (uA_se : Nat) (ulit : Int32) (umayor : Int32) (unight : Int32) (uoil : Int32) (uborn : Nat → Int32) (ustays : Nat → Int32) (useen : Nat → Int32) (tA_be : Nat) (tA_le : Nat) (tA_mo : Nat) (tA_rn : Nat) (tA_cn : Nat) (tA_bo : Nat) (tA_st : Nat) (Wd : Nat) (R : Nat) (thouses : Int32) (talways : Int32) (tnever : Int32) (nr : Nat) (nc : Nat) (tring : Bool) (tbeside : Nat → Int32) (tleast : Nat → Int32) (tmost : Nat → Int32) (trnames : Nat → Int64) (hT : tOK Wd R nr nc) (hmy : umayor < 0 ∨ (¬ umayor < 0 ∧ umayor.toNatClampNeg < nr)) (hbe : ∀ k, k < Wd * R → zpc (tbeside k) ≤ 4) (han : an ≤ 99) (sz : Nat) : Met l yX13_storm (ws_ yX13_storm cX13_storm 5 none) (zR 3 0 0) (zPm G sz [.ref aA, .ref lA, .ref uA] ((aW_ G aA a_what (nI an)) ++ (lW_ G lA uA l_state l_done l_missed l_nights l_storms l_births l_over l_left) ++ (hW G uA tA uA_bo uA_st uA_se ulit umayor unight uoil uborn ustays useen) ++ (tW G tA tA_be tA_le tA_mo tA_rn tA_cn tA_bo tA_st (nI Wd) (nI R) thouses talways tnever (nI nr) (nI nc) tring tbeside tleast tmost trnames))) (zQm G (True) none ((aW_ G aA a_what (nI an)) ++ (lW_ G lA uA ((yf_storm an l_state l_storms ulit Wd R thouses talways tnever).1) l_done l_missed l_nights ((yf_storm an l_state l_storms ulit Wd R thouses talways tnever).2.1) l_births l_over l_left) ++ (hW G uA tA uA_bo uA_st uA_se ((yf_storm an l_state l_storms ulit Wd R thouses talways tnever).2.2) umayor unight uoil uborn ustays useen) ++ (tW G tA tA_be tA_le tA_mo tA_rn tA_cn tA_bo tA_st (nI Wd) (nI R) thouses talways tnever (nI nr) (nI nc) tring tbeside tleast tmost trnames)) (va_A ((aW_ G aA a_what (nI an)) ++ (lW_ G lA uA l_state l_done l_missed l_nights l_storms l_births l_over l_left) ++ (hW G uA tA uA_bo uA_st uA_se ulit umayor unight uoil uborn ustays useen) ++ (tW G tA tA_be tA_le tA_mo tA_rn tA_cn tA_bo tA_st (nI Wd) (nI R) thouses talways tnever (nI nr) (nI nc) tring tbeside tleast tmost trnames)) sz)) 0 0 (va_A ((aW_ G aA a_what (nI an)) ++ (lW_ G lA uA l_state l_done l_missed l_nights l_storms l_births l_over l_left) ++ (hW G uA tA uA_bo uA_st uA_se ulit umayor unight uoil uborn ustays useen) ++ (tW G tA tA_be tA_le tA_mo tA_rn tA_cn tA_bo tA_st (nI Wd) (nI R) thouses talways tnever (nI nr) (nI nc) tring tbeside tleast tmost trnames)) sz) := by
  refine zr_entM (by decide) (Nat.le_of_ble_eq_true rfl) ?_
  intro p e s m below meth c ⟨hx, hb, hr, hml, hown, hts, hlocks, hnm⟩ ls hl hP hK A hE hA hD hS
  have hown : s.vm.findClass RX13 = some m.cls := hown
  have hl : lv_has ls 5 [(0, .ref aA), (1, .ref lA), (2, .ref uA)] := hl
  obtain ⟨H, hH⟩ : ∃ H, H = s.heap := ⟨_, rfl⟩
  obtain ⟨locs, hlo⟩ : ∃ L : List Loc, L = [] := ⟨_, rfl⟩
  rw [← hH] at hP
  have hS : va_S A s.heap H locs := by rw [hH, hlo]; exact va_S.rf
  have hgo : W p l e (zR 3 0 0) s m ([.ref aA, .ref lA, .ref uA] : List Value).toArray below meth c H locs 0 0 (MQ below (zQm G (True) none ((aW_ G aA a_what (nI an)) ++ (lW_ G lA uA ((yf_storm an l_state l_storms ulit Wd R thouses talways tnever).1) l_done l_missed l_nights ((yf_storm an l_state l_storms ulit Wd R thouses talways tnever).2.1) l_births l_over l_left) ++ (hW G uA tA uA_bo uA_st uA_se ((yf_storm an l_state l_storms ulit Wd R thouses talways tnever).2.2) umayor unight uoil uborn ustays useen) ++ (tW G tA tA_be tA_le tA_mo tA_rn tA_cn tA_bo tA_st (nI Wd) (nI R) thouses talways tnever (nI nr) (nI nc) tring tbeside tleast tmost trnames)) A) ([.ref aA, .ref lA, .ref uA] : List Value).toArray s 0 0 A) (F0 m 0 ls []) := ?_
  · rw [hH, hlo] at hgo; exact hgo
  clear hH hlo
  have hTT := hT
  obtain ⟨hW0, hW5, hR0, hR6, hn4, hc6, hWR⟩ := hTT
  refine lv_aload_n hx hb dX13_storm_0 rfl (lv_at hl 2 rfl) ?_
  refine va_getN (D := G.1) (ci := 5) (v := .int ulit) (C := RX5) (T := TX5) (N := 8) hx hb hts in_X5 hown hK.1 hP 2 rfl rfl 4 (Nat.le_of_ble_eq_true rfl) ((hK.2.1.1 _ (List.mem_of_getElem? (i := 34) rfl)).use rfl) (fun _ h => h) rfl dX13_storm_1 ?_
  refine lv_aload_n hx hb dX13_storm_4 rfl (lv_at hl 2 rfl) ?_
  refine va_getN (D := G.1) (ci := 5) (v := .ref tA) (C := RX5) (T := TX5) (N := 8) hx hb hts in_X5 hown hK.1 hP 2 rfl rfl 0 (Nat.le_of_ble_eq_true rfl) ((hK.2.1.1 _ (List.mem_of_getElem? (i := 33) rfl)).use rfl) (fun _ h => h) rfl dX13_storm_5 ?_
  refine zr_obV ⟨hx, hb, hml, hown, hts⟩ (mt_tf_free l G tA tA_be tA_le tA_mo tA_rn tA_cn tA_bo tA_st Wd R thouses talways tnever (nI nr) (nI nc) tring tbeside tleast tmost trnames) (cwV 0 hts (lw_V q1398 q1028 q1029 q143 q1030) rfl rfl rfl hd_X6_free ⟨(Nat.le_of_ble_eq_true rfl), (Nat.le_of_ble_eq_true rfl)⟩) (zP_sub hP (ws' := (tW G tA tA_be tA_le tA_mo tA_rn tA_cn tA_bo tA_st (nI Wd) (nI R) thouses talways tnever (nI nr) (nI nc) tring tbeside tleast tmost trnames)) [6, 7, 8, 9, 10] rfl) hK (zE_o hE hS) 0 6 rfl rfl rfl hl.1 rfl (Nat.le_of_ble_eq_true rfl) dX13_storm_8 ⟨Nat.le_refl _, Nat.le_refl _⟩ ?_
  refine lv_iand hx hb dX13_storm_11 ?_
  refine lv_istore_n (lv' := [(3, .int (ulit &&& (thouses &&& ((talways ||| tnever) ^^^ (-1))))), (0, .ref aA), (1, .ref lA), (2, .ref uA)]) hx hb dX13_storm_12 rfl hl (by decide) rfl (fun ls hl => ?_)
  refine lv_iconst (v := 0) hx hb dX13_storm_13 (by decide) ?_
  refine lv_istore (lv' := [(4, .int 0), (3, .int (ulit &&& (thouses &&& ((talways ||| tnever) ^^^ (-1))))), (0, .ref aA), (1, .ref lA), (2, .ref uA)]) hx hb dX13_storm_14 hl (by decide) rfl (fun ls hl => ?_)
  have hlp_1 : ∀ (n k_1 : Nat) (s_1 : Int32 × Int32 × Int32), k_1 ≤ Wd * R → Wd * R < k_1 + n → zf (yf_storm_B16 an ulit Wd R thouses talways tnever) (l_state, l_storms, ulit) k_1 = s_1 → ∀ (H : Heap) (locs : List Loc), va_P G.1 zcl ((aW_ G aA a_what (nI an)) ++ (lW_ G lA uA s_1.1 l_done l_missed l_nights s_1.2.1 l_births l_over l_left) ++ (hW G uA tA uA_bo uA_st uA_se s_1.2.2 umayor unight uoil uborn ustays useen) ++ (tW G tA tA_be tA_le tA_mo tA_rn tA_cn tA_bo tA_st (nI Wd) (nI R) thouses talways tnever (nI nr) (nI nc) tring tbeside tleast tmost trnames)) H → va_D A ((aW_ G aA a_what (nI an)) ++ (lW_ G lA uA s_1.1 l_done l_missed l_nights s_1.2.1 l_births l_over l_left) ++ (hW G uA tA uA_bo uA_st uA_se s_1.2.2 umayor unight uoil uborn ustays useen) ++ (tW G tA tA_be tA_le tA_mo tA_rn tA_cn tA_bo tA_st (nI Wd) (nI R) thouses talways tnever (nI nr) (nI nc) tring tbeside tleast tmost trnames)) → va_S A s.heap H locs → ∀ ls : Array Slot, lv_has ls 5 [(4, .int (nI k_1)), (3, .int (ulit &&& (thouses &&& ((talways ||| tnever) ^^^ (-1))))), (0, .ref aA), (1, .ref lA), (2, .ref uA)] → W p l e (zR 3 0 0) s m ([.ref aA, .ref lA, .ref uA] : List Value).toArray below meth c H locs 0 0 (MQ below (zQm G (True) none ((aW_ G aA a_what (nI an)) ++ (lW_ G lA uA ((yf_storm an l_state l_storms ulit Wd R thouses talways tnever).1) l_done l_missed l_nights ((yf_storm an l_state l_storms ulit Wd R thouses talways tnever).2.1) l_births l_over l_left) ++ (hW G uA tA uA_bo uA_st uA_se ((yf_storm an l_state l_storms ulit Wd R thouses talways tnever).2.2) umayor unight uoil uborn ustays useen) ++ (tW G tA tA_be tA_le tA_mo tA_rn tA_cn tA_bo tA_st (nI Wd) (nI R) thouses talways tnever (nI nr) (nI nc) tring tbeside tleast tmost trnames)) A) ([.ref aA, .ref lA, .ref uA] : List Value).toArray s 0 0 A) (F0 m 16 ls []) := by
    intro n
    induction n with
    | zero => intro k_1 s_1 h1 h2; exact absurd h2 (by omega)
    | succ n ih_1 =>
      intro k_1 s_1 hk_1 hn_1 hst_1 H locs hP hD hS ls hl
      refine lv_iload hx hb dX13_storm_16 (lv_at hl 0 rfl) ?_
      refine lv_aload_n hx hb dX13_storm_18 rfl (lv_at hl 4 rfl) ?_
      refine va_getN (D := G.1) (ci := 5) (v := .ref tA) (C := RX5) (T := TX5) (N := 8) hx hb hts in_X5 hown hK.1 hP 2 rfl rfl 0 (Nat.le_of_ble_eq_true rfl) ((hK.2.1.1 _ (List.mem_of_getElem? (i := 33) rfl)).use rfl) (fun _ h => h) rfl dX13_storm_19 ?_
      refine zr_obV ⟨hx, hb, hml, hown, hts⟩ (mt_tf_cells l G tA tA_be tA_le tA_mo tA_rn tA_cn tA_bo tA_st Wd R thouses talways tnever (nI nr) (nI nc) tring tbeside tleast tmost trnames) (cwV 0 hts (lw_V q1404 q1088 q1089 q143 q1090) rfl rfl rfl hd_X6_cells ⟨(Nat.le_of_ble_eq_true rfl), (Nat.le_of_ble_eq_true rfl)⟩) (zP_sub hP (ws' := (tW G tA tA_be tA_le tA_mo tA_rn tA_cn tA_bo tA_st (nI Wd) (nI R) thouses talways tnever (nI nr) (nI nc) tring tbeside tleast tmost trnames)) [6, 7, 8, 9, 10] rfl) hK (zE_o hE hS) 0 6 rfl rfl rfl hl.1 rfl (Nat.le_of_ble_eq_true rfl) dX13_storm_22 ⟨Nat.le_refl _, Nat.le_refl _⟩ ?_
      refine zr_ge k_1 (Wd * R) (by omega) (by omega) (tgt := 84) hx hb dX13_storm_25 (by decide) (fun c_1 => ?_) (fun c_1 => ?_)
      · have ek_1 : k_1 = Wd * R := Nat.le_antisymm hk_1 c_1
        have hs_1 : yf_storm_L16 an ulit Wd R thouses talways tnever (l_state, l_storms, ulit) = s_1 := by rw [ek_1] at hst_1; exact hst_1
        have hl := lv_sub hl (l' := _) [1, 2, 3, 4] rfl
        have e_ : yf_storm an l_state l_storms ulit Wd R thouses talways tnever = (s_1.1, s_1.2.1, s_1.2.2) := by rw [yf_storm, zlet_eq hs_1]
        exact zr_mv hx hb hr hlocks hP hD hS dX13_storm_84 rfl (by rw [e_]) trivial
      · have hlt_1 : k_1 < Wd * R := Nat.lt_of_not_le c_1
        refine lv_iload_n hx hb dX13_storm_28 rfl (lv_at hl 1 rfl) ?_
        refine lv_iload hx hb dX13_storm_29 (lv_at hl 0 rfl) ?_
        refine lv_ishr hx hb dX13_storm_31 ?_
        refine lv_iconst (v := 1) hx hb dX13_storm_32 (by decide) ?_
        refine lv_iand hx hb dX13_storm_33 ?_
        refine lv_if_eq (tgt := 78) hx hb dX13_storm_34 (by decide) (fun c_2 => ?_) (fun c_2 => ?_)
        · refine lv_iinc (v := nI (k_1 + 1)) (lv' := [(4, .int (nI (k_1 + 1))), (3, .int (ulit &&& (thouses &&& ((talways ||| tnever) ^^^ (-1))))), (0, .ref aA), (1, .ref lA), (2, .ref uA)]) hx hb dX13_storm_78 hl (k := 0) rfl (nI_add k_1 1) (by decide) rfl (fun ls hl => ?_)
          refine lv_goto (tgt := 16) hx hb dX13_storm_81 (by decide) ?_
          exact ih_1 (k_1 + 1) (s_1.1, s_1.2.1, s_1.2.2) hlt_1 (by omega) (zf_s hst_1 (by rw [yf_storm_B16, if_pos c_2])) H locs hP hD hS ls (lv_sub hl [0, 1, 2, 3, 4] rfl)
        · refine lv_aload_n hx hb dX13_storm_37 rfl (lv_at hl 3 rfl) ?_
          refine lv_bipush (v := 16) hx hb dX13_storm_38 (by decide) ?_
          refine zr_muVs (F := yf_draw s_1.1 16) (ff := fun t_3 => True) (rr := fun t_3 => some (.int t_3.1)) (w1 := fun t_3 => (lW_ G lA uA t_3.2 l_done l_missed l_nights s_1.2.1 l_births l_over l_left)) (wn := fun t_3 => ((aW_ G aA a_what (nI an)) ++ (lW_ G lA uA t_3.2 l_done l_missed l_nights s_1.2.1 l_births l_over l_left) ++ (hW G uA tA uA_bo uA_st uA_se s_1.2.2 umayor unight uoil uborn ustays useen) ++ (tW G tA tA_be tA_le tA_mo tA_rn tA_cn tA_bo tA_st (nI Wd) (nI R) thouses talways tnever (nI nr) (nI nc) tring tbeside tleast tmost trnames))) (wr := [(aA, .inr (11, [.int a_what, .int (nI an)])), (uA, .inr (5, [.ref tA, .ref uA_bo, .ref uA_st, .ref uA_se, .int s_1.2.2, .int umayor, .int unight, .int uoil])), (uA_bo, .inl (G.2 0, 4, .inl uborn)), (uA_st, .inl (G.2 0, 4, .inl ustays)), (uA_se, .inl (G.2 0, 10, .inl useen)), (tA, .inr (6, [.int (nI Wd), .int (nI R), .int thouses, .int talways, .int tnever, .int (nI nr), .int (nI nc), .int (zb tring), .ref tA_be, .ref tA_le, .ref tA_mo, .ref tA_rn, .ref tA_cn, .ref tA_bo, .ref tA_st])), (tA_be, .inl (G.2 0, 30, .inl tbeside)), (tA_le, .inl (G.2 0, 6, .inl tleast)), (tA_mo, .inl (G.2 0, 6, .inl tmost)), (tA_rn, .inl (G.2 1, 4, .inr (.inl trnames)))]) [1] [0, 2, 3, 4, 5, 6, 7, 8, 9, 10] [0, 10, 1, 2, 3, 4, 5, 6, 7, 8, 9] rfl rfl rfl rfl (by decide) rfl (fun _ => rfl) ⟨hx, hb, hml, hown, hts⟩ (mt_yf_draw l G lA uA s_1.1 l_done l_missed l_nights s_1.2.1 l_births l_over l_left 16 (by decide) H.size) (cwV 1 hts (lw_V q1405 q1406 q1407 q163 q1408) rfl rfl rfl hd_X14_draw ⟨(Nat.le_of_ble_eq_true rfl), (Nat.le_of_ble_eq_true rfl)⟩) hP hD hS hA hK hE 12 rfl rfl rfl hl.1 rfl (Nat.le_of_ble_eq_true rfl) dX13_storm_40 ⟨Nat.le_refl _, Nat.le_refl _⟩ (fun t_3 ht_3 hft_3 H locs hP hD hS _ => ?_)
          refine W.eq (g2 := F0 m 43 ls [.int t_3.1]) rfl ?_
          refine lv_aload_n hx hb dX13_storm_43 rfl (lv_at hl 2 rfl) ?_
          refine va_get (D := G.1) (ci := 11) (v := .int (nI an)) (C := RX13) (T := TX13) (N := 2) hx hb hts in_X13 hown hK.1 hP 0 rfl rfl 1 (Nat.le_of_ble_eq_true rfl) (hts _ q946) (fun _ h => h) rfl dX13_storm_44 ?_
          refine lv_icmp_lt (tgt := 53) hx hb dX13_storm_47 (by decide) (fun c_4 => ?_) (fun c_4 => ?_)
          · refine lv_aload_n hx hb dX13_storm_53 rfl (lv_at hl 4 rfl) ?_
            refine lv_dup hx hb dX13_storm_54 rfl ?_
            refine va_getN (D := G.1) (ci := 5) (v := .int s_1.2.2) (C := RX5) (T := TX5) (N := 8) hx hb hts in_X5 hown hK.1 hP 2 rfl rfl 4 (Nat.le_of_ble_eq_true rfl) ((hK.2.1.1 _ (List.mem_of_getElem? (i := 34) rfl)).use rfl) (fun _ h => h) rfl dX13_storm_55 ?_
            refine lv_iconst (v := 1) hx hb dX13_storm_58 (by decide) ?_
            refine lv_iload hx hb dX13_storm_59 (lv_at hl 0 rfl) ?_
            refine lv_ishl hx hb dX13_storm_61 ?_
            refine lv_iconst (v := (-1)) hx hb dX13_storm_62 (by decide) ?_
            refine lv_ixor hx hb dX13_storm_63 ?_
            refine lv_iand hx hb dX13_storm_64 ?_
            refine va_putN (D := G.1) (ci := 5) (v := .int (s_1.2.2 &&& (((1 : Int32) <<< ((nI k_1) &&& 31)) ^^^ (-1)))) (ty := .int) (C := RX5) (T := TX5) (N := 8) hx hb hts in_X5 tyX5 tyX5_ok nmX5 hown hK.1 hP hD hS 2 rfl rfl 4 (Nat.le_of_ble_eq_true rfl) ((hK.2.1.1 _ (List.mem_of_getElem? (i := 34) rfl)).use rfl) (fun _ h => h) rfl (tyX5_ok 4 (Nat.le_of_ble_eq_true rfl)) rfl rfl (Nat.le_of_ble_eq_true rfl) dX13_storm_65 (fun H locs hP hD hS => ?_)
            have hP : va_P G.1 zcl ((aW_ G aA a_what (nI an)) ++ (lW_ G lA uA t_3.2 l_done l_missed l_nights s_1.2.1 l_births l_over l_left) ++ (hW G uA tA uA_bo uA_st uA_se (s_1.2.2 &&& (((1 : Int32) <<< ((nI k_1) &&& 31)) ^^^ (-1))) umayor unight uoil uborn ustays useen) ++ (tW G tA tA_be tA_le tA_mo tA_rn tA_cn tA_bo tA_st (nI Wd) (nI R) thouses talways tnever (nI nr) (nI nc) tring tbeside tleast tmost trnames)) H := hP
            have hD : va_D A ((aW_ G aA a_what (nI an)) ++ (lW_ G lA uA t_3.2 l_done l_missed l_nights s_1.2.1 l_births l_over l_left) ++ (hW G uA tA uA_bo uA_st uA_se (s_1.2.2 &&& (((1 : Int32) <<< ((nI k_1) &&& 31)) ^^^ (-1))) umayor unight uoil uborn ustays useen) ++ (tW G tA tA_be tA_le tA_mo tA_rn tA_cn tA_bo tA_st (nI Wd) (nI R) thouses talways tnever (nI nr) (nI nc) tring tbeside tleast tmost trnames)) := hD
            refine lv_aload_n hx hb dX13_storm_68 rfl (lv_at hl 3 rfl) ?_
            refine lv_dup hx hb dX13_storm_69 rfl ?_
            refine va_getN (D := G.1) (ci := 12) (v := .int s_1.2.1) (C := RX14) (T := TX14) (N := 9) hx hb hts in_X14 hown hK.1 hP 1 rfl rfl 5 (Nat.le_of_ble_eq_true rfl) ((hK.2.1.1 _ (List.mem_of_getElem? (i := 37) rfl)).use rfl) (fun _ h => h) rfl dX13_storm_70 ?_
            refine lv_iconst (v := 1) hx hb dX13_storm_73 (by decide) ?_
            refine lv_iadd hx hb dX13_storm_74 ?_
            refine va_putN (D := G.1) (ci := 12) (v := .int (s_1.2.1 + 1)) (ty := .int) (C := RX14) (T := TX14) (N := 9) hx hb hts in_X14 tyX14 tyX14_ok nmX14 hown hK.1 hP hD hS 1 rfl rfl 5 (Nat.le_of_ble_eq_true rfl) ((hK.2.1.1 _ (List.mem_of_getElem? (i := 37) rfl)).use rfl) (fun _ h => h) rfl (tyX14_ok 5 (Nat.le_of_ble_eq_true rfl)) rfl rfl (Nat.le_of_ble_eq_true rfl) dX13_storm_75 (fun H locs hP hD hS => ?_)
            have hP : va_P G.1 zcl ((aW_ G aA a_what (nI an)) ++ (lW_ G lA uA t_3.2 l_done l_missed l_nights (s_1.2.1 + 1) l_births l_over l_left) ++ (hW G uA tA uA_bo uA_st uA_se (s_1.2.2 &&& (((1 : Int32) <<< ((nI k_1) &&& 31)) ^^^ (-1))) umayor unight uoil uborn ustays useen) ++ (tW G tA tA_be tA_le tA_mo tA_rn tA_cn tA_bo tA_st (nI Wd) (nI R) thouses talways tnever (nI nr) (nI nc) tring tbeside tleast tmost trnames)) H := hP
            have hD : va_D A ((aW_ G aA a_what (nI an)) ++ (lW_ G lA uA t_3.2 l_done l_missed l_nights (s_1.2.1 + 1) l_births l_over l_left) ++ (hW G uA tA uA_bo uA_st uA_se (s_1.2.2 &&& (((1 : Int32) <<< ((nI k_1) &&& 31)) ^^^ (-1))) umayor unight uoil uborn ustays useen) ++ (tW G tA tA_be tA_le tA_mo tA_rn tA_cn tA_bo tA_st (nI Wd) (nI R) thouses talways tnever (nI nr) (nI nc) tring tbeside tleast tmost trnames)) := hD
            refine lv_iinc (v := nI (k_1 + 1)) (lv' := [(4, .int (nI (k_1 + 1))), (3, .int (ulit &&& (thouses &&& ((talways ||| tnever) ^^^ (-1))))), (0, .ref aA), (1, .ref lA), (2, .ref uA)]) hx hb dX13_storm_78 hl (k := 0) rfl (nI_add k_1 1) (by decide) rfl (fun ls hl => ?_)
            refine lv_goto (tgt := 16) hx hb dX13_storm_81 (by decide) ?_
            exact ih_1 (k_1 + 1) (t_3.2, s_1.2.1 + 1, s_1.2.2 &&& (((1 : Int32) <<< ((nI k_1) &&& 31)) ^^^ (-1))) hlt_1 (by omega) (zf_s hst_1 (by rw [yf_storm_B16, if_neg c_2, zlet_eq ht_3, if_pos c_4])) H locs hP hD hS ls (lv_sub hl [0, 1, 2, 3, 4] rfl)
          · refine lv_goto (tgt := 78) hx hb dX13_storm_50 (by decide) ?_
            refine lv_iinc (v := nI (k_1 + 1)) (lv' := [(4, .int (nI (k_1 + 1))), (3, .int (ulit &&& (thouses &&& ((talways ||| tnever) ^^^ (-1))))), (0, .ref aA), (1, .ref lA), (2, .ref uA)]) hx hb dX13_storm_78 hl (k := 0) rfl (nI_add k_1 1) (by decide) rfl (fun ls hl => ?_)
            refine lv_goto (tgt := 16) hx hb dX13_storm_81 (by decide) ?_
            exact ih_1 (k_1 + 1) (t_3.2, s_1.2.1, s_1.2.2) hlt_1 (by omega) (zf_s hst_1 (by rw [yf_storm_B16, if_neg c_2, zlet_eq ht_3, if_neg c_4])) H locs hP hD hS ls (lv_sub hl [0, 1, 2, 3, 4] rfl)
  exact hlp_1 ((Wd * R) + 1) 0 (l_state, l_storms, ulit) (Nat.zero_le _) (by omega) rfl H locs hP hD hS ls (lv_sub hl [0, 1, 2, 3, 4] rfl)
def yf_birth (l_state : Int32) (l_births : Int32) (ulit : Int32) (Wd : Nat) (R : Nat) (thouses : Int32) (talways : Int32) (tnever : Int32) : Bool × Int32 × Int32 × Int32 :=
  zlet (yf_draw l_state (nI Wd)) (fun t_1 =>
  zlet (yf_draw t_1.2 (nI R)) (fun t_2 =>
  (if (((thouses &&& ((talways ||| tnever) ^^^ (-1))) &&& (ulit ^^^ (-1))) &&& ((1 : Int32) <<< ((nI Wd * t_2.1 + t_1.1) &&& 31))) = 0 then
    (false, t_2.2, l_births, ulit)
  else
    (true, t_2.2, l_births + 1, ulit ||| ((1 : Int32) <<< ((nI Wd * t_2.1 + t_1.1) &&& 31))))))
theorem hd_X13_birth : yX13_birth.cls = RX13 ∧ yX13_birth.cls ≠ "java/lang/invoke/MethodHandle" ∧ yX13_birth.cls ≠ "java/lang/invoke/VarHandle" ∧ (parseMethodDescriptor yX13_birth.desc).map (fun d => d.parameters.length) = some 2 := by decide +kernel
set_option maxHeartbeats 4000000 in
set_option maxRecDepth 100000 in
theorem mt_yf_birth (l : Launch) (G : zG) (aA : Nat) (a_what : Int32) (an : Nat) (lA : Nat) (uA : Nat) (l_state : Int32) (l_done : Int32) (l_missed : Int32) (l_nights : Int32) (l_storms : Int32) (l_births : Int32) (l_over : Bool) (l_left : Bool) (tA : Nat) (uA_bo : Nat) (uA_st : Nat) (uA_se : Nat) (ulit : Int32) (umayor : Int32) (unight : Int32) (uoil : Int32) (uborn : Nat → Int32) (ustays : Nat → Int32) (useen : Nat → Int32) (tA_be : Nat) (tA_le : Nat) (tA_mo : Nat) (tA_rn : Nat) (tA_cn : Nat) (tA_bo : Nat) (tA_st : Nat) (Wd : Nat) (R : Nat) (thouses : Int32) (talways : Int32) (tnever : Int32) (nr : Nat) (nc : Nat) (tring : Bool) (tbeside : Nat → Int32) (tleast : Nat → Int32) (tmost : Nat → Int32) (trnames : Nat → Int64) (hT : tOK Wd R nr nc) (hmy : umayor < 0 ∨ (¬ umayor < 0 ∧ umayor.toNatClampNeg < nr)) (hbe : ∀ k, k < Wd * R → zpc (tbeside k) ≤ 4) (han : an ≤ 99) (sz : Nat) : Met l yX13_birth (ws_ yX13_birth cX13_birth 5 (some .boolean)) (zR 3 0 0) (zPm G sz [.ref aA, .ref lA, .ref uA] ((aW_ G aA a_what (nI an)) ++ (lW_ G lA uA l_state l_done l_missed l_nights l_storms l_births l_over l_left) ++ (hW G uA tA uA_bo uA_st uA_se ulit umayor unight uoil uborn ustays useen) ++ (tW G tA tA_be tA_le tA_mo tA_rn tA_cn tA_bo tA_st (nI Wd) (nI R) thouses talways tnever (nI nr) (nI nc) tring tbeside tleast tmost trnames))) (zQm G (True) (some (.int (zb ((yf_birth l_state l_births ulit Wd R thouses talways tnever).1)))) ((aW_ G aA a_what (nI an)) ++ (lW_ G lA uA ((yf_birth l_state l_births ulit Wd R thouses talways tnever).2.1) l_done l_missed l_nights l_storms ((yf_birth l_state l_births ulit Wd R thouses talways tnever).2.2.1) l_over l_left) ++ (hW G uA tA uA_bo uA_st uA_se ((yf_birth l_state l_births ulit Wd R thouses talways tnever).2.2.2) umayor unight uoil uborn ustays useen) ++ (tW G tA tA_be tA_le tA_mo tA_rn tA_cn tA_bo tA_st (nI Wd) (nI R) thouses talways tnever (nI nr) (nI nc) tring tbeside tleast tmost trnames)) (va_A ((aW_ G aA a_what (nI an)) ++ (lW_ G lA uA l_state l_done l_missed l_nights l_storms l_births l_over l_left) ++ (hW G uA tA uA_bo uA_st uA_se ulit umayor unight uoil uborn ustays useen) ++ (tW G tA tA_be tA_le tA_mo tA_rn tA_cn tA_bo tA_st (nI Wd) (nI R) thouses talways tnever (nI nr) (nI nc) tring tbeside tleast tmost trnames)) sz)) 0 0 (va_A ((aW_ G aA a_what (nI an)) ++ (lW_ G lA uA l_state l_done l_missed l_nights l_storms l_births l_over l_left) ++ (hW G uA tA uA_bo uA_st uA_se ulit umayor unight uoil uborn ustays useen) ++ (tW G tA tA_be tA_le tA_mo tA_rn tA_cn tA_bo tA_st (nI Wd) (nI R) thouses talways tnever (nI nr) (nI nc) tring tbeside tleast tmost trnames)) sz) := by
  refine zr_entM (by decide) (Nat.le_of_ble_eq_true rfl) ?_
  intro p e s m below meth c ⟨hx, hb, hr, hml, hown, hts, hlocks, hnm⟩ ls hl hP hK A hE hA hD hS
  have hown : s.vm.findClass RX13 = some m.cls := hown
  have hl : lv_has ls 5 [(0, .ref aA), (1, .ref lA), (2, .ref uA)] := hl
  obtain ⟨H, hH⟩ : ∃ H, H = s.heap := ⟨_, rfl⟩
  obtain ⟨locs, hlo⟩ : ∃ L : List Loc, L = [] := ⟨_, rfl⟩
  rw [← hH] at hP
  have hS : va_S A s.heap H locs := by rw [hH, hlo]; exact va_S.rf
  have hgo : W p l e (zR 3 0 0) s m ([.ref aA, .ref lA, .ref uA] : List Value).toArray below meth c H locs 0 0 (MQ below (zQm G (True) (some (.int (zb ((yf_birth l_state l_births ulit Wd R thouses talways tnever).1)))) ((aW_ G aA a_what (nI an)) ++ (lW_ G lA uA ((yf_birth l_state l_births ulit Wd R thouses talways tnever).2.1) l_done l_missed l_nights l_storms ((yf_birth l_state l_births ulit Wd R thouses talways tnever).2.2.1) l_over l_left) ++ (hW G uA tA uA_bo uA_st uA_se ((yf_birth l_state l_births ulit Wd R thouses talways tnever).2.2.2) umayor unight uoil uborn ustays useen) ++ (tW G tA tA_be tA_le tA_mo tA_rn tA_cn tA_bo tA_st (nI Wd) (nI R) thouses talways tnever (nI nr) (nI nc) tring tbeside tleast tmost trnames)) A) ([.ref aA, .ref lA, .ref uA] : List Value).toArray s 0 0 A) (F0 m 0 ls []) := ?_
  · rw [hH, hlo] at hgo; exact hgo
  clear hH hlo
  have hTT := hT
  obtain ⟨hW0, hW5, hR0, hR6, hn4, hc6, hWR⟩ := hTT
  refine lv_aload_n hx hb dX13_birth_0 rfl (lv_at hl 1 rfl) ?_
  refine lv_aload_n hx hb dX13_birth_1 rfl (lv_at hl 2 rfl) ?_
  refine va_getN (D := G.1) (ci := 5) (v := .ref tA) (C := RX5) (T := TX5) (N := 8) hx hb hts in_X5 hown hK.1 hP 2 rfl rfl 0 (Nat.le_of_ble_eq_true rfl) ((hK.2.1.1 _ (List.mem_of_getElem? (i := 33) rfl)).use rfl) (fun _ h => h) rfl dX13_birth_2 ?_
  refine va_getN (D := G.1) (ci := 6) (v := .int (nI Wd)) (C := RX6) (T := TX6) (N := 15) hx hb hts in_X6 hown hK.1 hP 6 rfl rfl 0 (Nat.le_of_ble_eq_true rfl) ((hK.2.1.1 _ (List.mem_of_getElem? (i := 38) rfl)).use rfl) (fun _ h => h) rfl dX13_birth_5 ?_
  refine zr_muVs (F := yf_draw l_state (nI Wd)) (ff := fun t_1 => True) (rr := fun t_1 => some (.int t_1.1)) (w1 := fun t_1 => (lW_ G lA uA t_1.2 l_done l_missed l_nights l_storms l_births l_over l_left)) (wn := fun t_1 => ((aW_ G aA a_what (nI an)) ++ (lW_ G lA uA t_1.2 l_done l_missed l_nights l_storms l_births l_over l_left) ++ (hW G uA tA uA_bo uA_st uA_se ulit umayor unight uoil uborn ustays useen) ++ (tW G tA tA_be tA_le tA_mo tA_rn tA_cn tA_bo tA_st (nI Wd) (nI R) thouses talways tnever (nI nr) (nI nc) tring tbeside tleast tmost trnames))) (wr := [(aA, .inr (11, [.int a_what, .int (nI an)])), (uA, .inr (5, [.ref tA, .ref uA_bo, .ref uA_st, .ref uA_se, .int ulit, .int umayor, .int unight, .int uoil])), (uA_bo, .inl (G.2 0, 4, .inl uborn)), (uA_st, .inl (G.2 0, 4, .inl ustays)), (uA_se, .inl (G.2 0, 10, .inl useen)), (tA, .inr (6, [.int (nI Wd), .int (nI R), .int thouses, .int talways, .int tnever, .int (nI nr), .int (nI nc), .int (zb tring), .ref tA_be, .ref tA_le, .ref tA_mo, .ref tA_rn, .ref tA_cn, .ref tA_bo, .ref tA_st])), (tA_be, .inl (G.2 0, 30, .inl tbeside)), (tA_le, .inl (G.2 0, 6, .inl tleast)), (tA_mo, .inl (G.2 0, 6, .inl tmost)), (tA_rn, .inl (G.2 1, 4, .inr (.inl trnames)))]) [1] [0, 2, 3, 4, 5, 6, 7, 8, 9, 10] [0, 10, 1, 2, 3, 4, 5, 6, 7, 8, 9] rfl rfl rfl rfl (by decide) rfl (fun _ => rfl) ⟨hx, hb, hml, hown, hts⟩ (mt_yf_draw l G lA uA l_state l_done l_missed l_nights l_storms l_births l_over l_left (nI Wd) (nI_ne0 (by omega) (by omega)) H.size) (cwV 1 hts (lw_V q1405 q1406 q1407 q163 q1408) rfl rfl rfl hd_X14_draw ⟨(Nat.le_of_ble_eq_true rfl), (Nat.le_of_ble_eq_true rfl)⟩) hP hD hS hA hK hE 12 rfl rfl rfl hl.1 rfl (Nat.le_of_ble_eq_true rfl) dX13_birth_8 ⟨Nat.le_refl _, Nat.le_refl _⟩ (fun t_1 ht_1 hft_1 H locs hP hD hS _ => ?_)
  refine W.eq (g2 := F0 m 11 ls [.int t_1.1]) rfl ?_
  refine lv_istore_n (lv' := [(3, .int t_1.1), (0, .ref aA), (1, .ref lA), (2, .ref uA)]) hx hb dX13_birth_11 rfl hl (by decide) rfl (fun ls hl => ?_)
  refine lv_aload_n hx hb dX13_birth_12 rfl (lv_at hl 3 rfl) ?_
  refine va_getN (D := G.1) (ci := 5) (v := .ref tA) (C := RX5) (T := TX5) (N := 8) hx hb hts in_X5 hown hK.1 hP 2 rfl rfl 0 (Nat.le_of_ble_eq_true rfl) ((hK.2.1.1 _ (List.mem_of_getElem? (i := 33) rfl)).use rfl) (fun _ h => h) rfl dX13_birth_13 ?_
  refine lv_iload_n hx hb dX13_birth_16 rfl (lv_at hl 0 rfl) ?_
  refine lv_aload_n hx hb dX13_birth_17 rfl (lv_at hl 2 rfl) ?_
  refine lv_aload_n hx hb dX13_birth_18 rfl (lv_at hl 3 rfl) ?_
  refine va_getN (D := G.1) (ci := 5) (v := .ref tA) (C := RX5) (T := TX5) (N := 8) hx hb hts in_X5 hown hK.1 hP 2 rfl rfl 0 (Nat.le_of_ble_eq_true rfl) ((hK.2.1.1 _ (List.mem_of_getElem? (i := 33) rfl)).use rfl) (fun _ h => h) rfl dX13_birth_19 ?_
  refine va_getN (D := G.1) (ci := 6) (v := .int (nI R)) (C := RX6) (T := TX6) (N := 15) hx hb hts in_X6 hown hK.1 hP 6 rfl rfl 1 (Nat.le_of_ble_eq_true rfl) ((hK.2.1.1 _ (List.mem_of_getElem? (i := 39) rfl)).use rfl) (fun _ h => h) rfl dX13_birth_22 ?_
  refine zr_muVs (F := yf_draw t_1.2 (nI R)) (ff := fun t_2 => True) (rr := fun t_2 => some (.int t_2.1)) (w1 := fun t_2 => (lW_ G lA uA t_2.2 l_done l_missed l_nights l_storms l_births l_over l_left)) (wn := fun t_2 => ((aW_ G aA a_what (nI an)) ++ (lW_ G lA uA t_2.2 l_done l_missed l_nights l_storms l_births l_over l_left) ++ (hW G uA tA uA_bo uA_st uA_se ulit umayor unight uoil uborn ustays useen) ++ (tW G tA tA_be tA_le tA_mo tA_rn tA_cn tA_bo tA_st (nI Wd) (nI R) thouses talways tnever (nI nr) (nI nc) tring tbeside tleast tmost trnames))) (wr := [(aA, .inr (11, [.int a_what, .int (nI an)])), (uA, .inr (5, [.ref tA, .ref uA_bo, .ref uA_st, .ref uA_se, .int ulit, .int umayor, .int unight, .int uoil])), (uA_bo, .inl (G.2 0, 4, .inl uborn)), (uA_st, .inl (G.2 0, 4, .inl ustays)), (uA_se, .inl (G.2 0, 10, .inl useen)), (tA, .inr (6, [.int (nI Wd), .int (nI R), .int thouses, .int talways, .int tnever, .int (nI nr), .int (nI nc), .int (zb tring), .ref tA_be, .ref tA_le, .ref tA_mo, .ref tA_rn, .ref tA_cn, .ref tA_bo, .ref tA_st])), (tA_be, .inl (G.2 0, 30, .inl tbeside)), (tA_le, .inl (G.2 0, 6, .inl tleast)), (tA_mo, .inl (G.2 0, 6, .inl tmost)), (tA_rn, .inl (G.2 1, 4, .inr (.inl trnames)))]) [1] [0, 2, 3, 4, 5, 6, 7, 8, 9, 10] [0, 10, 1, 2, 3, 4, 5, 6, 7, 8, 9] rfl rfl rfl rfl (by decide) rfl (fun _ => rfl) ⟨hx, hb, hml, hown, hts⟩ (mt_yf_draw l G lA uA t_1.2 l_done l_missed l_nights l_storms l_births l_over l_left (nI R) (nI_ne0 (by omega) (by omega)) H.size) (cwV 1 hts (lw_V q1405 q1406 q1407 q163 q1408) rfl rfl rfl hd_X14_draw ⟨(Nat.le_of_ble_eq_true rfl), (Nat.le_of_ble_eq_true rfl)⟩) hP hD hS hA hK hE 12 rfl rfl rfl hl.1 rfl (Nat.le_of_ble_eq_true rfl) dX13_birth_25 ⟨Nat.le_refl _, Nat.le_refl _⟩ (fun t_2 ht_2 hft_2 H locs hP hD hS _ => ?_)
  refine W.eq (g2 := F0 m 28 ls [.int t_2.1, .int t_1.1, .ref tA]) rfl ?_
  refine zr_obV ⟨hx, hb, hml, hown, hts⟩ (mt_tf_cell l G tA tA_be tA_le tA_mo tA_rn tA_cn tA_bo tA_st Wd R thouses talways tnever (nI nr) (nI nc) tring tbeside tleast tmost trnames t_1.1 t_2.1) (cwV 2 hts (lw_V q1414 q764 q765 q143 q766) rfl rfl rfl hd_X6_cell ⟨(Nat.le_of_ble_eq_true rfl), (Nat.le_of_ble_eq_true rfl)⟩) (zP_sub hP (ws' := (tW G tA tA_be tA_le tA_mo tA_rn tA_cn tA_bo tA_st (nI Wd) (nI R) thouses talways tnever (nI nr) (nI nc) tring tbeside tleast tmost trnames)) [6, 7, 8, 9, 10] rfl) hK (zE_o hE hS) 0 6 rfl rfl rfl hl.1 rfl (Nat.le_of_ble_eq_true rfl) dX13_birth_28 ⟨Nat.le_refl _, Nat.le_refl _⟩ ?_
  refine lv_istore (lv' := [(4, .int (nI Wd * t_2.1 + t_1.1)), (3, .int t_1.1), (0, .ref aA), (1, .ref lA), (2, .ref uA)]) hx hb dX13_birth_31 hl (by decide) rfl (fun ls hl => ?_)
  refine lv_aload_n hx hb dX13_birth_33 rfl (lv_at hl 4 rfl) ?_
  refine va_getN (D := G.1) (ci := 5) (v := .ref tA) (C := RX5) (T := TX5) (N := 8) hx hb hts in_X5 hown hK.1 hP 2 rfl rfl 0 (Nat.le_of_ble_eq_true rfl) ((hK.2.1.1 _ (List.mem_of_getElem? (i := 33) rfl)).use rfl) (fun _ h => h) rfl dX13_birth_34 ?_
  refine zr_obV ⟨hx, hb, hml, hown, hts⟩ (mt_tf_free l G tA tA_be tA_le tA_mo tA_rn tA_cn tA_bo tA_st Wd R thouses talways tnever (nI nr) (nI nc) tring tbeside tleast tmost trnames) (cwV 0 hts (lw_V q1398 q1028 q1029 q143 q1030) rfl rfl rfl hd_X6_free ⟨(Nat.le_of_ble_eq_true rfl), (Nat.le_of_ble_eq_true rfl)⟩) (zP_sub hP (ws' := (tW G tA tA_be tA_le tA_mo tA_rn tA_cn tA_bo tA_st (nI Wd) (nI R) thouses talways tnever (nI nr) (nI nc) tring tbeside tleast tmost trnames)) [6, 7, 8, 9, 10] rfl) hK (zE_o hE hS) 0 6 rfl rfl rfl hl.1 rfl (Nat.le_of_ble_eq_true rfl) dX13_birth_37 ⟨Nat.le_refl _, Nat.le_refl _⟩ ?_
  refine lv_aload_n hx hb dX13_birth_40 rfl (lv_at hl 4 rfl) ?_
  refine va_getN (D := G.1) (ci := 5) (v := .int ulit) (C := RX5) (T := TX5) (N := 8) hx hb hts in_X5 hown hK.1 hP 2 rfl rfl 4 (Nat.le_of_ble_eq_true rfl) ((hK.2.1.1 _ (List.mem_of_getElem? (i := 34) rfl)).use rfl) (fun _ h => h) rfl dX13_birth_41 ?_
  refine lv_iconst (v := (-1)) hx hb dX13_birth_44 (by decide) ?_
  refine lv_ixor hx hb dX13_birth_45 ?_
  refine lv_iand hx hb dX13_birth_46 ?_
  refine lv_iconst (v := 1) hx hb dX13_birth_47 (by decide) ?_
  refine lv_iload hx hb dX13_birth_48 (lv_at hl 0 rfl) ?_
  refine lv_ishl hx hb dX13_birth_50 ?_
  refine lv_iand hx hb dX13_birth_51 ?_
  refine lv_if_ne (tgt := 57) hx hb dX13_birth_52 (by decide) (fun c_3 => ?_) (fun c_3 => ?_)
  · refine lv_aload_n hx hb dX13_birth_57 rfl (lv_at hl 4 rfl) ?_
    refine lv_dup hx hb dX13_birth_58 rfl ?_
    refine va_getN (D := G.1) (ci := 5) (v := .int ulit) (C := RX5) (T := TX5) (N := 8) hx hb hts in_X5 hown hK.1 hP 2 rfl rfl 4 (Nat.le_of_ble_eq_true rfl) ((hK.2.1.1 _ (List.mem_of_getElem? (i := 34) rfl)).use rfl) (fun _ h => h) rfl dX13_birth_59 ?_
    refine lv_iconst (v := 1) hx hb dX13_birth_62 (by decide) ?_
    refine lv_iload hx hb dX13_birth_63 (lv_at hl 0 rfl) ?_
    refine lv_ishl hx hb dX13_birth_65 ?_
    refine lv_ior hx hb dX13_birth_66 ?_
    refine va_putN (D := G.1) (ci := 5) (v := .int (ulit ||| ((1 : Int32) <<< ((nI Wd * t_2.1 + t_1.1) &&& 31)))) (ty := .int) (C := RX5) (T := TX5) (N := 8) hx hb hts in_X5 tyX5 tyX5_ok nmX5 hown hK.1 hP hD hS 2 rfl rfl 4 (Nat.le_of_ble_eq_true rfl) ((hK.2.1.1 _ (List.mem_of_getElem? (i := 34) rfl)).use rfl) (fun _ h => h) rfl (tyX5_ok 4 (Nat.le_of_ble_eq_true rfl)) rfl rfl (Nat.le_of_ble_eq_true rfl) dX13_birth_67 (fun H locs hP hD hS => ?_)
    have hP : va_P G.1 zcl ((aW_ G aA a_what (nI an)) ++ (lW_ G lA uA t_2.2 l_done l_missed l_nights l_storms l_births l_over l_left) ++ (hW G uA tA uA_bo uA_st uA_se (ulit ||| ((1 : Int32) <<< ((nI Wd * t_2.1 + t_1.1) &&& 31))) umayor unight uoil uborn ustays useen) ++ (tW G tA tA_be tA_le tA_mo tA_rn tA_cn tA_bo tA_st (nI Wd) (nI R) thouses talways tnever (nI nr) (nI nc) tring tbeside tleast tmost trnames)) H := hP
    have hD : va_D A ((aW_ G aA a_what (nI an)) ++ (lW_ G lA uA t_2.2 l_done l_missed l_nights l_storms l_births l_over l_left) ++ (hW G uA tA uA_bo uA_st uA_se (ulit ||| ((1 : Int32) <<< ((nI Wd * t_2.1 + t_1.1) &&& 31))) umayor unight uoil uborn ustays useen) ++ (tW G tA tA_be tA_le tA_mo tA_rn tA_cn tA_bo tA_st (nI Wd) (nI R) thouses talways tnever (nI nr) (nI nc) tring tbeside tleast tmost trnames)) := hD
    refine lv_aload_n hx hb dX13_birth_70 rfl (lv_at hl 3 rfl) ?_
    refine lv_dup hx hb dX13_birth_71 rfl ?_
    refine va_getN (D := G.1) (ci := 12) (v := .int l_births) (C := RX14) (T := TX14) (N := 9) hx hb hts in_X14 hown hK.1 hP 1 rfl rfl 6 (Nat.le_of_ble_eq_true rfl) ((hK.2.1.1 _ (List.mem_of_getElem? (i := 40) rfl)).use rfl) (fun _ h => h) rfl dX13_birth_72 ?_
    refine lv_iconst (v := 1) hx hb dX13_birth_75 (by decide) ?_
    refine lv_iadd hx hb dX13_birth_76 ?_
    refine va_putN (D := G.1) (ci := 12) (v := .int (l_births + 1)) (ty := .int) (C := RX14) (T := TX14) (N := 9) hx hb hts in_X14 tyX14 tyX14_ok nmX14 hown hK.1 hP hD hS 1 rfl rfl 6 (Nat.le_of_ble_eq_true rfl) ((hK.2.1.1 _ (List.mem_of_getElem? (i := 40) rfl)).use rfl) (fun _ h => h) rfl (tyX14_ok 6 (Nat.le_of_ble_eq_true rfl)) rfl rfl (Nat.le_of_ble_eq_true rfl) dX13_birth_77 (fun H locs hP hD hS => ?_)
    have hP : va_P G.1 zcl ((aW_ G aA a_what (nI an)) ++ (lW_ G lA uA t_2.2 l_done l_missed l_nights l_storms (l_births + 1) l_over l_left) ++ (hW G uA tA uA_bo uA_st uA_se (ulit ||| ((1 : Int32) <<< ((nI Wd * t_2.1 + t_1.1) &&& 31))) umayor unight uoil uborn ustays useen) ++ (tW G tA tA_be tA_le tA_mo tA_rn tA_cn tA_bo tA_st (nI Wd) (nI R) thouses talways tnever (nI nr) (nI nc) tring tbeside tleast tmost trnames)) H := hP
    have hD : va_D A ((aW_ G aA a_what (nI an)) ++ (lW_ G lA uA t_2.2 l_done l_missed l_nights l_storms (l_births + 1) l_over l_left) ++ (hW G uA tA uA_bo uA_st uA_se (ulit ||| ((1 : Int32) <<< ((nI Wd * t_2.1 + t_1.1) &&& 31))) umayor unight uoil uborn ustays useen) ++ (tW G tA tA_be tA_le tA_mo tA_rn tA_cn tA_bo tA_st (nI Wd) (nI R) thouses talways tnever (nI nr) (nI nc) tring tbeside tleast tmost trnames)) := hD
    refine lv_iconst (v := 1) hx hb dX13_birth_80 (by decide) ?_
    have e_ : yf_birth l_state l_births ulit Wd R thouses talways tnever = (true, t_2.2, l_births + 1, ulit ||| ((1 : Int32) <<< ((nI Wd * t_2.1 + t_1.1) &&& 31))) := by rw [yf_birth, zlet_eq ht_1, zlet_eq ht_2, if_neg c_3]
    exact zr_mz hx hb hr hlocks hP hD hS dX13_birth_81 rfl (by rw [e_]; rfl) (by rw [e_]) trivial
  · refine lv_iconst (v := 0) hx hb dX13_birth_55 (by decide) ?_
    have e_ : yf_birth l_state l_births ulit Wd R thouses talways tnever = (false, t_2.2, l_births, ulit) := by rw [yf_birth, zlet_eq ht_1, zlet_eq ht_2, if_pos c_3]
    exact zr_mz hx hb hr hlocks hP hD hS dX13_birth_56 rfl (by rw [e_]; rfl) (by rw [e_]) trivial
def yf_can_B50 (an : Nat) (umayor : Int32) (uborn : Nat → Int32) (ustays : Nat → Int32) (Wd : Nat) (R : Nat) (thouses : Int32) (talways : Int32) (tnever : Int32) (tbeside : Nat → Int32) (k_2 : Nat) (s_2 : Int32 × Int32 × Int32 × (Nat → Int32)) : Int32 × Int32 × Int32 × (Nat → Int32) :=
  zlet (hf_night s_2.1 umayor s_2.2.1 s_2.2.2.1 uborn ustays s_2.2.2.2 Wd R thouses talways tnever tbeside) (fun t_3 =>
  (t_3.1, t_3.2.1, t_3.2.2.1, t_3.2.2.2))
def yf_can_L50 (an : Nat) (umayor : Int32) (uborn : Nat → Int32) (ustays : Nat → Int32) (Wd : Nat) (R : Nat) (thouses : Int32) (talways : Int32) (tnever : Int32) (tbeside : Nat → Int32) (s_2 : Int32 × Int32 × Int32 × (Nat → Int32)) : Int32 × Int32 × Int32 × (Nat → Int32) := zf (yf_can_B50 an umayor uborn ustays Wd R thouses talways tnever tbeside) s_2 an
def yf_can (a_what : Int32) (an : Nat) (l_state : Int32) (l_nights : Int32) (l_storms : Int32) (l_births : Int32) (l_over : Bool) (ulit : Int32) (umayor : Int32) (unight : Int32) (uoil : Int32) (uborn : Nat → Int32) (ustays : Nat → Int32) (useen : Nat → Int32) (Wd : Nat) (R : Nat) (thouses : Int32) (talways : Int32) (tnever : Int32) (nr : Nat) (nc : Nat) (tbeside : Nat → Int32) (tleast : Nat → Int32) (tmost : Nat → Int32) : Bool × Int32 × Int32 × Int32 × Int32 × Bool × Int32 × Int32 × Int32 × Int32 × (Nat → Int32) :=
  (if a_what = 0 then
    zlet (yf_can_L50 an umayor uborn ustays Wd R thouses talways tnever tbeside (ulit, unight, uoil, useen)) (fun s_2 =>
    (true, l_state, l_nights + (nI an), l_storms, l_births, l_over, s_2.1, umayor, s_2.2.1, s_2.2.2.1, s_2.2.2.2))
  else
    (if a_what = 1 then
      (if (((thouses &&& ((talways ||| tnever) ^^^ (-1))) >>> ((nI an) &&& 31)) &&& 1) = 0 then
        (false, l_state, l_nights, l_storms, l_births, l_over, ulit, umayor, unight, uoil, useen)
      else
        (true, l_state, l_nights, l_storms, l_births, l_over, ulit ^^^ ((1 : Int32) <<< ((nI an) &&& 31)), umayor, unight, uoil, useen))
    else
      (if a_what = 2 then
        (true, l_state, l_nights, l_storms, l_births, l_over, ulit, nI an, unight, uoil, useen)
      else
        (if a_what = 3 then
          zlet (hf_elects ulit umayor uborn ustays Wd R thouses talways tnever nr nc tbeside tleast tmost) (fun t_8 =>
          (t_8.1, l_state, l_nights, l_storms, l_births, l_over, ulit, t_8.2, unight, uoil, useen))
        else
          (if a_what = 4 then
            zlet (yf_storm an l_state l_storms ulit Wd R thouses talways tnever) (fun t_10 =>
            (true, t_10.1, l_nights, t_10.2.1, l_births, l_over, t_10.2.2, umayor, unight, uoil, useen))
          else
            (if a_what = 5 then
              zlet (yf_birth l_state l_births ulit Wd R thouses talways tnever) (fun t_12 =>
              (t_12.1, t_12.2.1, l_nights, l_storms, t_12.2.2.1, l_over, t_12.2.2.2, umayor, unight, uoil, useen))
            else
              (true, l_state, l_nights, l_storms, l_births, true, ulit, umayor, unight, uoil, useen)))))))
theorem hd_X13_can : yX13_can.cls = RX13 ∧ yX13_can.cls ≠ "java/lang/invoke/MethodHandle" ∧ yX13_can.cls ≠ "java/lang/invoke/VarHandle" ∧ (parseMethodDescriptor yX13_can.desc).map (fun d => d.parameters.length) = some 1 := by decide +kernel
set_option maxHeartbeats 4000000 in
set_option maxRecDepth 100000 in
theorem mt_yf_can (l : Launch) (G : zG) (aA : Nat) (a_what : Int32) (an : Nat) (lA : Nat) (uA : Nat) (l_state : Int32) (l_done : Int32) (l_missed : Int32) (l_nights : Int32) (l_storms : Int32) (l_births : Int32) (l_over : Bool) (l_left : Bool) (tA : Nat) (uA_bo : Nat) (uA_st : Nat) (uA_se : Nat) (ulit : Int32) (umayor : Int32) (unight : Int32) (uoil : Int32) (uborn : Nat → Int32) (ustays : Nat → Int32) (useen : Nat → Int32) (tA_be : Nat) (tA_le : Nat) (tA_mo : Nat) (tA_rn : Nat) (tA_cn : Nat) (tA_bo : Nat) (tA_st : Nat) (Wd : Nat) (R : Nat) (thouses : Int32) (talways : Int32) (tnever : Int32) (nr : Nat) (nc : Nat) (tring : Bool) (tbeside : Nat → Int32) (tleast : Nat → Int32) (tmost : Nat → Int32) (trnames : Nat → Int64) (hT : tOK Wd R nr nc) (hmy : umayor < 0 ∨ (¬ umayor < 0 ∧ umayor.toNatClampNeg < nr)) (hbe : ∀ k, k < Wd * R → zpc (tbeside k) ≤ 4) (han : an ≤ 99) (hmw : a_what = 2 → an < nr) (sz : Nat) : Met l yX13_can (ws_ yX13_can cX13_can 4 (some .boolean)) (zR 7 0 0) (zPm G sz [.ref aA, .ref lA] ((aW_ G aA a_what (nI an)) ++ (lW_ G lA uA l_state l_done l_missed l_nights l_storms l_births l_over l_left) ++ (hW G uA tA uA_bo uA_st uA_se ulit umayor unight uoil uborn ustays useen) ++ (tW G tA tA_be tA_le tA_mo tA_rn tA_cn tA_bo tA_st (nI Wd) (nI R) thouses talways tnever (nI nr) (nI nc) tring tbeside tleast tmost trnames))) (zQm G ((((yf_can a_what an l_state l_nights l_storms l_births l_over ulit umayor unight uoil uborn ustays useen Wd R thouses talways tnever nr nc tbeside tleast tmost).2.2.2.2.2.2.2.1) < 0 ∨ (¬ ((yf_can a_what an l_state l_nights l_storms l_births l_over ulit umayor unight uoil uborn ustays useen Wd R thouses talways tnever nr nc tbeside tleast tmost).2.2.2.2.2.2.2.1) < 0 ∧ (((yf_can a_what an l_state l_nights l_storms l_births l_over ulit umayor unight uoil uborn ustays useen Wd R thouses talways tnever nr nc tbeside tleast tmost).2.2.2.2.2.2.2.1)).toNatClampNeg < nr))) (some (.int (zb ((yf_can a_what an l_state l_nights l_storms l_births l_over ulit umayor unight uoil uborn ustays useen Wd R thouses talways tnever nr nc tbeside tleast tmost).1)))) ((aW_ G aA a_what (nI an)) ++ (lW_ G lA uA ((yf_can a_what an l_state l_nights l_storms l_births l_over ulit umayor unight uoil uborn ustays useen Wd R thouses talways tnever nr nc tbeside tleast tmost).2.1) l_done l_missed ((yf_can a_what an l_state l_nights l_storms l_births l_over ulit umayor unight uoil uborn ustays useen Wd R thouses talways tnever nr nc tbeside tleast tmost).2.2.1) ((yf_can a_what an l_state l_nights l_storms l_births l_over ulit umayor unight uoil uborn ustays useen Wd R thouses talways tnever nr nc tbeside tleast tmost).2.2.2.1) ((yf_can a_what an l_state l_nights l_storms l_births l_over ulit umayor unight uoil uborn ustays useen Wd R thouses talways tnever nr nc tbeside tleast tmost).2.2.2.2.1) ((yf_can a_what an l_state l_nights l_storms l_births l_over ulit umayor unight uoil uborn ustays useen Wd R thouses talways tnever nr nc tbeside tleast tmost).2.2.2.2.2.1) l_left) ++ (hW G uA tA uA_bo uA_st uA_se ((yf_can a_what an l_state l_nights l_storms l_births l_over ulit umayor unight uoil uborn ustays useen Wd R thouses talways tnever nr nc tbeside tleast tmost).2.2.2.2.2.2.1) ((yf_can a_what an l_state l_nights l_storms l_births l_over ulit umayor unight uoil uborn ustays useen Wd R thouses talways tnever nr nc tbeside tleast tmost).2.2.2.2.2.2.2.1) ((yf_can a_what an l_state l_nights l_storms l_births l_over ulit umayor unight uoil uborn ustays useen Wd R thouses talways tnever nr nc tbeside tleast tmost).2.2.2.2.2.2.2.2.1) ((yf_can a_what an l_state l_nights l_storms l_births l_over ulit umayor unight uoil uborn ustays useen Wd R thouses talways tnever nr nc tbeside tleast tmost).2.2.2.2.2.2.2.2.2.1) uborn ustays ((yf_can a_what an l_state l_nights l_storms l_births l_over ulit umayor unight uoil uborn ustays useen Wd R thouses talways tnever nr nc tbeside tleast tmost).2.2.2.2.2.2.2.2.2.2)) ++ (tW G tA tA_be tA_le tA_mo tA_rn tA_cn tA_bo tA_st (nI Wd) (nI R) thouses talways tnever (nI nr) (nI nc) tring tbeside tleast tmost trnames)) (va_A ((aW_ G aA a_what (nI an)) ++ (lW_ G lA uA l_state l_done l_missed l_nights l_storms l_births l_over l_left) ++ (hW G uA tA uA_bo uA_st uA_se ulit umayor unight uoil uborn ustays useen) ++ (tW G tA tA_be tA_le tA_mo tA_rn tA_cn tA_bo tA_st (nI Wd) (nI R) thouses talways tnever (nI nr) (nI nc) tring tbeside tleast tmost trnames)) sz)) 0 0 (va_A ((aW_ G aA a_what (nI an)) ++ (lW_ G lA uA l_state l_done l_missed l_nights l_storms l_births l_over l_left) ++ (hW G uA tA uA_bo uA_st uA_se ulit umayor unight uoil uborn ustays useen) ++ (tW G tA tA_be tA_le tA_mo tA_rn tA_cn tA_bo tA_st (nI Wd) (nI R) thouses talways tnever (nI nr) (nI nc) tring tbeside tleast tmost trnames)) sz) := by
  refine zr_entM (by decide) (Nat.le_of_ble_eq_true rfl) ?_
  intro p e s m below meth c ⟨hx, hb, hr, hml, hown, hts, hlocks, hnm⟩ ls hl hP hK A hE hA hD hS
  have hown : s.vm.findClass RX13 = some m.cls := hown
  have hl : lv_has ls 4 [(0, .ref aA), (1, .ref lA)] := hl
  obtain ⟨H, hH⟩ : ∃ H, H = s.heap := ⟨_, rfl⟩
  obtain ⟨locs, hlo⟩ : ∃ L : List Loc, L = [] := ⟨_, rfl⟩
  rw [← hH] at hP
  have hS : va_S A s.heap H locs := by rw [hH, hlo]; exact va_S.rf
  have hgo : W p l e (zR 7 0 0) s m ([.ref aA, .ref lA] : List Value).toArray below meth c H locs 0 0 (MQ below (zQm G ((((yf_can a_what an l_state l_nights l_storms l_births l_over ulit umayor unight uoil uborn ustays useen Wd R thouses talways tnever nr nc tbeside tleast tmost).2.2.2.2.2.2.2.1) < 0 ∨ (¬ ((yf_can a_what an l_state l_nights l_storms l_births l_over ulit umayor unight uoil uborn ustays useen Wd R thouses talways tnever nr nc tbeside tleast tmost).2.2.2.2.2.2.2.1) < 0 ∧ (((yf_can a_what an l_state l_nights l_storms l_births l_over ulit umayor unight uoil uborn ustays useen Wd R thouses talways tnever nr nc tbeside tleast tmost).2.2.2.2.2.2.2.1)).toNatClampNeg < nr))) (some (.int (zb ((yf_can a_what an l_state l_nights l_storms l_births l_over ulit umayor unight uoil uborn ustays useen Wd R thouses talways tnever nr nc tbeside tleast tmost).1)))) ((aW_ G aA a_what (nI an)) ++ (lW_ G lA uA ((yf_can a_what an l_state l_nights l_storms l_births l_over ulit umayor unight uoil uborn ustays useen Wd R thouses talways tnever nr nc tbeside tleast tmost).2.1) l_done l_missed ((yf_can a_what an l_state l_nights l_storms l_births l_over ulit umayor unight uoil uborn ustays useen Wd R thouses talways tnever nr nc tbeside tleast tmost).2.2.1) ((yf_can a_what an l_state l_nights l_storms l_births l_over ulit umayor unight uoil uborn ustays useen Wd R thouses talways tnever nr nc tbeside tleast tmost).2.2.2.1) ((yf_can a_what an l_state l_nights l_storms l_births l_over ulit umayor unight uoil uborn ustays useen Wd R thouses talways tnever nr nc tbeside tleast tmost).2.2.2.2.1) ((yf_can a_what an l_state l_nights l_storms l_births l_over ulit umayor unight uoil uborn ustays useen Wd R thouses talways tnever nr nc tbeside tleast tmost).2.2.2.2.2.1) l_left) ++ (hW G uA tA uA_bo uA_st uA_se ((yf_can a_what an l_state l_nights l_storms l_births l_over ulit umayor unight uoil uborn ustays useen Wd R thouses talways tnever nr nc tbeside tleast tmost).2.2.2.2.2.2.1) ((yf_can a_what an l_state l_nights l_storms l_births l_over ulit umayor unight uoil uborn ustays useen Wd R thouses talways tnever nr nc tbeside tleast tmost).2.2.2.2.2.2.2.1) ((yf_can a_what an l_state l_nights l_storms l_births l_over ulit umayor unight uoil uborn ustays useen Wd R thouses talways tnever nr nc tbeside tleast tmost).2.2.2.2.2.2.2.2.1) ((yf_can a_what an l_state l_nights l_storms l_births l_over ulit umayor unight uoil uborn ustays useen Wd R thouses talways tnever nr nc tbeside tleast tmost).2.2.2.2.2.2.2.2.2.1) uborn ustays ((yf_can a_what an l_state l_nights l_storms l_births l_over ulit umayor unight uoil uborn ustays useen Wd R thouses talways tnever nr nc tbeside tleast tmost).2.2.2.2.2.2.2.2.2.2)) ++ (tW G tA tA_be tA_le tA_mo tA_rn tA_cn tA_bo tA_st (nI Wd) (nI R) thouses talways tnever (nI nr) (nI nc) tring tbeside tleast tmost trnames)) A) ([.ref aA, .ref lA] : List Value).toArray s 0 0 A) (F0 m 0 ls []) := ?_
  · rw [hH, hlo] at hgo; exact hgo
  clear hH hlo
  have hTT := hT
  obtain ⟨hW0, hW5, hR0, hR6, hn4, hc6, hWR⟩ := hTT
  refine lv_aload_n hx hb dX13_can_0 rfl (lv_at hl 1 rfl) ?_
  refine va_getN (D := G.1) (ci := 12) (v := .ref uA) (C := RX14) (T := TX14) (N := 9) hx hb hts in_X14 hown hK.1 hP 1 rfl rfl 0 (Nat.le_of_ble_eq_true rfl) ((hK.2.1.1 _ (List.mem_of_getElem? (i := 31) rfl)).use rfl) (fun _ h => h) rfl dX13_can_1 ?_
  refine lv_astore_n (lv' := [(2, .ref uA), (0, .ref aA), (1, .ref lA)]) hx hb dX13_can_4 rfl hl (by decide) rfl (fun ls hl => ?_)
  refine lv_aload_n hx hb dX13_can_5 rfl (lv_at hl 1 rfl) ?_
  refine va_get (D := G.1) (ci := 11) (v := .int a_what) (C := RX13) (T := TX13) (N := 2) hx hb hts in_X13 hown hK.1 hP 0 rfl rfl 0 (Nat.le_of_ble_eq_true rfl) (hts _ q945) (fun _ h => h) rfl dX13_can_6 ?_
  rcases Classical.em (a_what = 0) with c_1 | c_1
  · refine lv_tableIn (off := 39) (tgt := 48) hx hb dX13_can_9 (by rw [c_1]; decide) (by rw [c_1]; decide) (by rw [c_1]; rfl) (by decide) ?_
    refine lv_iconst (v := 0) hx hb dX13_can_48 (by decide) ?_
    refine lv_istore_n (lv' := [(3, .int 0), (2, .ref uA), (0, .ref aA), (1, .ref lA)]) hx hb dX13_can_49 rfl hl (by decide) rfl (fun ls hl => ?_)
    have hlp_2 : ∀ (n k_2 : Nat) (s_2 : Int32 × Int32 × Int32 × (Nat → Int32)), k_2 ≤ an → an < k_2 + n → zf (yf_can_B50 an umayor uborn ustays Wd R thouses talways tnever tbeside) (ulit, unight, uoil, useen) k_2 = s_2 → ∀ (H : Heap) (locs : List Loc), va_P G.1 zcl ((aW_ G aA a_what (nI an)) ++ (lW_ G lA uA l_state l_done l_missed l_nights l_storms l_births l_over l_left) ++ (hW G uA tA uA_bo uA_st uA_se s_2.1 umayor s_2.2.1 s_2.2.2.1 uborn ustays s_2.2.2.2) ++ (tW G tA tA_be tA_le tA_mo tA_rn tA_cn tA_bo tA_st (nI Wd) (nI R) thouses talways tnever (nI nr) (nI nc) tring tbeside tleast tmost trnames)) H → va_D A ((aW_ G aA a_what (nI an)) ++ (lW_ G lA uA l_state l_done l_missed l_nights l_storms l_births l_over l_left) ++ (hW G uA tA uA_bo uA_st uA_se s_2.1 umayor s_2.2.1 s_2.2.2.1 uborn ustays s_2.2.2.2) ++ (tW G tA tA_be tA_le tA_mo tA_rn tA_cn tA_bo tA_st (nI Wd) (nI R) thouses talways tnever (nI nr) (nI nc) tring tbeside tleast tmost trnames)) → va_S A s.heap H locs → ∀ ls : Array Slot, lv_has ls 4 [(3, .int (nI k_2)), (2, .ref uA), (0, .ref aA), (1, .ref lA)] → W p l e (zR 7 0 0) s m ([.ref aA, .ref lA] : List Value).toArray below meth c H locs 0 0 (MQ below (zQm G ((((yf_can a_what an l_state l_nights l_storms l_births l_over ulit umayor unight uoil uborn ustays useen Wd R thouses talways tnever nr nc tbeside tleast tmost).2.2.2.2.2.2.2.1) < 0 ∨ (¬ ((yf_can a_what an l_state l_nights l_storms l_births l_over ulit umayor unight uoil uborn ustays useen Wd R thouses talways tnever nr nc tbeside tleast tmost).2.2.2.2.2.2.2.1) < 0 ∧ (((yf_can a_what an l_state l_nights l_storms l_births l_over ulit umayor unight uoil uborn ustays useen Wd R thouses talways tnever nr nc tbeside tleast tmost).2.2.2.2.2.2.2.1)).toNatClampNeg < nr))) (some (.int (zb ((yf_can a_what an l_state l_nights l_storms l_births l_over ulit umayor unight uoil uborn ustays useen Wd R thouses talways tnever nr nc tbeside tleast tmost).1)))) ((aW_ G aA a_what (nI an)) ++ (lW_ G lA uA ((yf_can a_what an l_state l_nights l_storms l_births l_over ulit umayor unight uoil uborn ustays useen Wd R thouses talways tnever nr nc tbeside tleast tmost).2.1) l_done l_missed ((yf_can a_what an l_state l_nights l_storms l_births l_over ulit umayor unight uoil uborn ustays useen Wd R thouses talways tnever nr nc tbeside tleast tmost).2.2.1) ((yf_can a_what an l_state l_nights l_storms l_births l_over ulit umayor unight uoil uborn ustays useen Wd R thouses talways tnever nr nc tbeside tleast tmost).2.2.2.1) ((yf_can a_what an l_state l_nights l_storms l_births l_over ulit umayor unight uoil uborn ustays useen Wd R thouses talways tnever nr nc tbeside tleast tmost).2.2.2.2.1) ((yf_can a_what an l_state l_nights l_storms l_births l_over ulit umayor unight uoil uborn ustays useen Wd R thouses talways tnever nr nc tbeside tleast tmost).2.2.2.2.2.1) l_left) ++ (hW G uA tA uA_bo uA_st uA_se ((yf_can a_what an l_state l_nights l_storms l_births l_over ulit umayor unight uoil uborn ustays useen Wd R thouses talways tnever nr nc tbeside tleast tmost).2.2.2.2.2.2.1) ((yf_can a_what an l_state l_nights l_storms l_births l_over ulit umayor unight uoil uborn ustays useen Wd R thouses talways tnever nr nc tbeside tleast tmost).2.2.2.2.2.2.2.1) ((yf_can a_what an l_state l_nights l_storms l_births l_over ulit umayor unight uoil uborn ustays useen Wd R thouses talways tnever nr nc tbeside tleast tmost).2.2.2.2.2.2.2.2.1) ((yf_can a_what an l_state l_nights l_storms l_births l_over ulit umayor unight uoil uborn ustays useen Wd R thouses talways tnever nr nc tbeside tleast tmost).2.2.2.2.2.2.2.2.2.1) uborn ustays ((yf_can a_what an l_state l_nights l_storms l_births l_over ulit umayor unight uoil uborn ustays useen Wd R thouses talways tnever nr nc tbeside tleast tmost).2.2.2.2.2.2.2.2.2.2)) ++ (tW G tA tA_be tA_le tA_mo tA_rn tA_cn tA_bo tA_st (nI Wd) (nI R) thouses talways tnever (nI nr) (nI nc) tring tbeside tleast tmost trnames)) A) ([.ref aA, .ref lA] : List Value).toArray s 0 0 A) (F0 m 50 ls []) := by
      intro n
      induction n with
      | zero => intro k_2 s_2 h1 h2; exact absurd h2 (by omega)
      | succ n ih_2 =>
        intro k_2 s_2 hk_2 hn_2 hst_2 H locs hP hD hS ls hl
        refine lv_iload_n hx hb dX13_can_50 rfl (lv_at hl 0 rfl) ?_
        refine lv_aload_n hx hb dX13_can_51 rfl (lv_at hl 2 rfl) ?_
        refine va_get (D := G.1) (ci := 11) (v := .int (nI an)) (C := RX13) (T := TX13) (N := 2) hx hb hts in_X13 hown hK.1 hP 0 rfl rfl 1 (Nat.le_of_ble_eq_true rfl) (hts _ q946) (fun _ h => h) rfl dX13_can_52 ?_
        refine zr_ge k_2 an (by omega) (by omega) (tgt := 68) hx hb dX13_can_55 (by decide) (fun c_2 => ?_) (fun c_2 => ?_)
        · have ek_2 : k_2 = an := Nat.le_antisymm hk_2 c_2
          have hs_2 : yf_can_L50 an umayor uborn ustays Wd R thouses talways tnever tbeside (ulit, unight, uoil, useen) = s_2 := by rw [ek_2] at hst_2; exact hst_2
          have hl := lv_sub hl (l' := _) [1, 2, 3] rfl
          refine lv_aload_n hx hb dX13_can_68 rfl (lv_at hl 2 rfl) ?_
          refine lv_dup hx hb dX13_can_69 rfl ?_
          refine va_getN (D := G.1) (ci := 12) (v := .int l_nights) (C := RX14) (T := TX14) (N := 9) hx hb hts in_X14 hown hK.1 hP 1 rfl rfl 4 (Nat.le_of_ble_eq_true rfl) ((hK.2.1.1 _ (List.mem_of_getElem? (i := 32) rfl)).use rfl) (fun _ h => h) rfl dX13_can_70 ?_
          refine lv_aload_n hx hb dX13_can_73 rfl (lv_at hl 1 rfl) ?_
          refine va_get (D := G.1) (ci := 11) (v := .int (nI an)) (C := RX13) (T := TX13) (N := 2) hx hb hts in_X13 hown hK.1 hP 0 rfl rfl 1 (Nat.le_of_ble_eq_true rfl) (hts _ q946) (fun _ h => h) rfl dX13_can_74 ?_
          refine lv_iadd hx hb dX13_can_77 ?_
          refine va_putN (D := G.1) (ci := 12) (v := .int (l_nights + (nI an))) (ty := .int) (C := RX14) (T := TX14) (N := 9) hx hb hts in_X14 tyX14 tyX14_ok nmX14 hown hK.1 hP hD hS 1 rfl rfl 4 (Nat.le_of_ble_eq_true rfl) ((hK.2.1.1 _ (List.mem_of_getElem? (i := 32) rfl)).use rfl) (fun _ h => h) rfl (tyX14_ok 4 (Nat.le_of_ble_eq_true rfl)) rfl rfl (Nat.le_of_ble_eq_true rfl) dX13_can_78 (fun H locs hP hD hS => ?_)
          have hP : va_P G.1 zcl ((aW_ G aA a_what (nI an)) ++ (lW_ G lA uA l_state l_done l_missed (l_nights + (nI an)) l_storms l_births l_over l_left) ++ (hW G uA tA uA_bo uA_st uA_se s_2.1 umayor s_2.2.1 s_2.2.2.1 uborn ustays s_2.2.2.2) ++ (tW G tA tA_be tA_le tA_mo tA_rn tA_cn tA_bo tA_st (nI Wd) (nI R) thouses talways tnever (nI nr) (nI nc) tring tbeside tleast tmost trnames)) H := hP
          have hD : va_D A ((aW_ G aA a_what (nI an)) ++ (lW_ G lA uA l_state l_done l_missed (l_nights + (nI an)) l_storms l_births l_over l_left) ++ (hW G uA tA uA_bo uA_st uA_se s_2.1 umayor s_2.2.1 s_2.2.2.1 uborn ustays s_2.2.2.2) ++ (tW G tA tA_be tA_le tA_mo tA_rn tA_cn tA_bo tA_st (nI Wd) (nI R) thouses talways tnever (nI nr) (nI nc) tring tbeside tleast tmost trnames)) := hD
          refine lv_iconst (v := 1) hx hb dX13_can_81 (by decide) ?_
          have e_ : yf_can a_what an l_state l_nights l_storms l_births l_over ulit umayor unight uoil uborn ustays useen Wd R thouses talways tnever nr nc tbeside tleast tmost = (true, l_state, l_nights + (nI an), l_storms, l_births, l_over, s_2.1, umayor, s_2.2.1, s_2.2.2.1, s_2.2.2.2) := by rw [yf_can, if_pos c_1, zlet_eq hs_2]
          exact zr_mz hx hb hr hlocks hP hD hS dX13_can_82 rfl (by rw [e_]; rfl) (by rw [e_]) (by rw [e_]; exact (by first | exact hmy | exact hem | assumption | exact Or.inr ⟨nI_pos (by omega), by rw [nI_clamp (by omega)]; exact hmw (by assumption)⟩))
        · have hlt_2 : k_2 < an := Nat.lt_of_not_le c_2
          refine lv_aload_n hx hb dX13_can_58 rfl (lv_at hl 1 rfl) ?_
          refine zr_muVs (F := hf_night s_2.1 umayor s_2.2.1 s_2.2.2.1 uborn ustays s_2.2.2.2 Wd R thouses talways tnever tbeside) (ff := fun t_3 => True) (rr := fun t_3 => none) (w1 := fun t_3 => ((hW G uA tA uA_bo uA_st uA_se t_3.1 umayor t_3.2.1 t_3.2.2.1 uborn ustays t_3.2.2.2) ++ (tW G tA tA_be tA_le tA_mo tA_rn tA_cn tA_bo tA_st (nI Wd) (nI R) thouses talways tnever (nI nr) (nI nc) tring tbeside tleast tmost trnames))) (wn := fun t_3 => ((aW_ G aA a_what (nI an)) ++ (lW_ G lA uA l_state l_done l_missed l_nights l_storms l_births l_over l_left) ++ (hW G uA tA uA_bo uA_st uA_se t_3.1 umayor t_3.2.1 t_3.2.2.1 uborn ustays t_3.2.2.2) ++ (tW G tA tA_be tA_le tA_mo tA_rn tA_cn tA_bo tA_st (nI Wd) (nI R) thouses talways tnever (nI nr) (nI nc) tring tbeside tleast tmost trnames))) (wr := [(aA, .inr (11, [.int a_what, .int (nI an)])), (lA, .inr (12, [.ref uA, .int l_state, .int l_done, .int l_missed, .int l_nights, .int l_storms, .int l_births, .int (zb l_over), .int (zb l_left)]))]) [2, 3, 4, 5, 6, 7, 8, 9, 10] [0, 1] [0, 1, 2, 3, 4, 5, 6, 7, 8, 9, 10] rfl rfl rfl rfl (by decide) rfl (fun _ => rfl) ⟨hx, hb, hml, hown, hts⟩ (mt_hf_night l G uA tA uA_bo uA_st uA_se s_2.1 umayor s_2.2.1 s_2.2.2.1 uborn ustays s_2.2.2.2 tA_be tA_le tA_mo tA_rn tA_cn tA_bo tA_st Wd R thouses talways tnever nr nc tring tbeside tleast tmost trnames hT hmy hbe H.size) (cwV 0 hts (lw_V q1397 q1076 q1077 q142 q1078) rfl rfl rfl hd_X5_night ⟨(Nat.le_of_ble_eq_true rfl), (Nat.le_of_ble_eq_true rfl)⟩) hP hD hS hA hK hE 5 rfl rfl rfl hl.1 rfl (Nat.le_of_ble_eq_true rfl) dX13_can_59 ⟨Nat.le_refl _, Nat.le_refl _⟩ (fun t_3 ht_3 hft_3 H locs hP hD hS _ => ?_)
          refine W.eq (g2 := F0 m 62 ls []) rfl ?_
          refine lv_iinc (v := nI (k_2 + 1)) (lv' := [(3, .int (nI (k_2 + 1))), (2, .ref uA), (0, .ref aA), (1, .ref lA)]) hx hb dX13_can_62 hl (k := 0) rfl (nI_add k_2 1) (by decide) rfl (fun ls hl => ?_)
          refine lv_goto (tgt := 50) hx hb dX13_can_65 (by decide) ?_
          exact ih_2 (k_2 + 1) (t_3.1, t_3.2.1, t_3.2.2.1, t_3.2.2.2) hlt_2 (by omega) (zf_s hst_2 (by rw [yf_can_B50, zlet_eq ht_3])) H locs hP hD hS ls (lv_sub hl [0, 1, 2, 3] rfl)
    exact hlp_2 (an + 1) 0 (ulit, unight, uoil, useen) (Nat.zero_le _) (by omega) rfl H locs hP hD hS ls (lv_sub hl [0, 1, 2, 3] rfl)
  · rcases Classical.em (a_what = 1) with c_4 | c_4
    · refine lv_tableIn (off := 74) (tgt := 83) hx hb dX13_can_9 (by rw [c_4]; decide) (by rw [c_4]; decide) (by rw [c_4]; rfl) (by decide) ?_
      refine lv_aload_n hx hb dX13_can_83 rfl (lv_at hl 0 rfl) ?_
      refine va_getN (D := G.1) (ci := 5) (v := .ref tA) (C := RX5) (T := TX5) (N := 8) hx hb hts in_X5 hown hK.1 hP 2 rfl rfl 0 (Nat.le_of_ble_eq_true rfl) ((hK.2.1.1 _ (List.mem_of_getElem? (i := 33) rfl)).use rfl) (fun _ h => h) rfl dX13_can_84 ?_
      refine zr_obV ⟨hx, hb, hml, hown, hts⟩ (mt_tf_free l G tA tA_be tA_le tA_mo tA_rn tA_cn tA_bo tA_st Wd R thouses talways tnever (nI nr) (nI nc) tring tbeside tleast tmost trnames) (cwV 0 hts (lw_V q1398 q1028 q1029 q143 q1030) rfl rfl rfl hd_X6_free ⟨(Nat.le_of_ble_eq_true rfl), (Nat.le_of_ble_eq_true rfl)⟩) (zP_sub hP (ws' := (tW G tA tA_be tA_le tA_mo tA_rn tA_cn tA_bo tA_st (nI Wd) (nI R) thouses talways tnever (nI nr) (nI nc) tring tbeside tleast tmost trnames)) [6, 7, 8, 9, 10] rfl) hK (zE_o hE hS) 0 6 rfl rfl rfl hl.1 rfl (Nat.le_of_ble_eq_true rfl) dX13_can_87 ⟨Nat.le_refl _, Nat.le_refl _⟩ ?_
      refine lv_aload_n hx hb dX13_can_90 rfl (lv_at hl 1 rfl) ?_
      refine va_get (D := G.1) (ci := 11) (v := .int (nI an)) (C := RX13) (T := TX13) (N := 2) hx hb hts in_X13 hown hK.1 hP 0 rfl rfl 1 (Nat.le_of_ble_eq_true rfl) (hts _ q946) (fun _ h => h) rfl dX13_can_91 ?_
      refine lv_ishr hx hb dX13_can_94 ?_
      refine lv_iconst (v := 1) hx hb dX13_can_95 (by decide) ?_
      refine lv_iand hx hb dX13_can_96 ?_
      refine lv_if_ne (tgt := 102) hx hb dX13_can_97 (by decide) (fun c_5 => ?_) (fun c_5 => ?_)
      · refine lv_aload_n hx hb dX13_can_102 rfl (lv_at hl 0 rfl) ?_
        refine lv_dup hx hb dX13_can_103 rfl ?_
        refine va_getN (D := G.1) (ci := 5) (v := .int ulit) (C := RX5) (T := TX5) (N := 8) hx hb hts in_X5 hown hK.1 hP 2 rfl rfl 4 (Nat.le_of_ble_eq_true rfl) ((hK.2.1.1 _ (List.mem_of_getElem? (i := 34) rfl)).use rfl) (fun _ h => h) rfl dX13_can_104 ?_
        refine lv_iconst (v := 1) hx hb dX13_can_107 (by decide) ?_
        refine lv_aload_n hx hb dX13_can_108 rfl (lv_at hl 1 rfl) ?_
        refine va_get (D := G.1) (ci := 11) (v := .int (nI an)) (C := RX13) (T := TX13) (N := 2) hx hb hts in_X13 hown hK.1 hP 0 rfl rfl 1 (Nat.le_of_ble_eq_true rfl) (hts _ q946) (fun _ h => h) rfl dX13_can_109 ?_
        refine lv_ishl hx hb dX13_can_112 ?_
        refine lv_ixor hx hb dX13_can_113 ?_
        refine va_putN (D := G.1) (ci := 5) (v := .int (ulit ^^^ ((1 : Int32) <<< ((nI an) &&& 31)))) (ty := .int) (C := RX5) (T := TX5) (N := 8) hx hb hts in_X5 tyX5 tyX5_ok nmX5 hown hK.1 hP hD hS 2 rfl rfl 4 (Nat.le_of_ble_eq_true rfl) ((hK.2.1.1 _ (List.mem_of_getElem? (i := 34) rfl)).use rfl) (fun _ h => h) rfl (tyX5_ok 4 (Nat.le_of_ble_eq_true rfl)) rfl rfl (Nat.le_of_ble_eq_true rfl) dX13_can_114 (fun H locs hP hD hS => ?_)
        have hP : va_P G.1 zcl ((aW_ G aA a_what (nI an)) ++ (lW_ G lA uA l_state l_done l_missed l_nights l_storms l_births l_over l_left) ++ (hW G uA tA uA_bo uA_st uA_se (ulit ^^^ ((1 : Int32) <<< ((nI an) &&& 31))) umayor unight uoil uborn ustays useen) ++ (tW G tA tA_be tA_le tA_mo tA_rn tA_cn tA_bo tA_st (nI Wd) (nI R) thouses talways tnever (nI nr) (nI nc) tring tbeside tleast tmost trnames)) H := hP
        have hD : va_D A ((aW_ G aA a_what (nI an)) ++ (lW_ G lA uA l_state l_done l_missed l_nights l_storms l_births l_over l_left) ++ (hW G uA tA uA_bo uA_st uA_se (ulit ^^^ ((1 : Int32) <<< ((nI an) &&& 31))) umayor unight uoil uborn ustays useen) ++ (tW G tA tA_be tA_le tA_mo tA_rn tA_cn tA_bo tA_st (nI Wd) (nI R) thouses talways tnever (nI nr) (nI nc) tring tbeside tleast tmost trnames)) := hD
        refine lv_iconst (v := 1) hx hb dX13_can_117 (by decide) ?_
        have e_ : yf_can a_what an l_state l_nights l_storms l_births l_over ulit umayor unight uoil uborn ustays useen Wd R thouses talways tnever nr nc tbeside tleast tmost = (true, l_state, l_nights, l_storms, l_births, l_over, ulit ^^^ ((1 : Int32) <<< ((nI an) &&& 31)), umayor, unight, uoil, useen) := by rw [yf_can, if_neg c_1, if_pos c_4, if_neg c_5]
        exact zr_mz hx hb hr hlocks hP hD hS dX13_can_118 rfl (by rw [e_]; rfl) (by rw [e_]) (by rw [e_]; exact (by first | exact hmy | exact hem | assumption | exact Or.inr ⟨nI_pos (by omega), by rw [nI_clamp (by omega)]; exact hmw (by assumption)⟩))
      · refine lv_iconst (v := 0) hx hb dX13_can_100 (by decide) ?_
        have e_ : yf_can a_what an l_state l_nights l_storms l_births l_over ulit umayor unight uoil uborn ustays useen Wd R thouses talways tnever nr nc tbeside tleast tmost = (false, l_state, l_nights, l_storms, l_births, l_over, ulit, umayor, unight, uoil, useen) := by rw [yf_can, if_neg c_1, if_pos c_4, if_pos c_5]
        exact zr_mz hx hb hr hlocks hP hD hS dX13_can_101 rfl (by rw [e_]; rfl) (by rw [e_]) (by rw [e_]; exact (by first | exact hmy | exact hem | assumption | exact Or.inr ⟨nI_pos (by omega), by rw [nI_clamp (by omega)]; exact hmw (by assumption)⟩))
    · rcases Classical.em (a_what = 2) with c_6 | c_6
      · refine lv_tableIn (off := 110) (tgt := 119) hx hb dX13_can_9 (by rw [c_6]; decide) (by rw [c_6]; decide) (by rw [c_6]; rfl) (by decide) ?_
        refine lv_aload_n hx hb dX13_can_119 rfl (lv_at hl 0 rfl) ?_
        refine lv_aload_n hx hb dX13_can_120 rfl (lv_at hl 1 rfl) ?_
        refine va_get (D := G.1) (ci := 11) (v := .int (nI an)) (C := RX13) (T := TX13) (N := 2) hx hb hts in_X13 hown hK.1 hP 0 rfl rfl 1 (Nat.le_of_ble_eq_true rfl) (hts _ q946) (fun _ h => h) rfl dX13_can_121 ?_
        refine va_putN (D := G.1) (ci := 5) (v := .int (nI an)) (ty := .int) (C := RX5) (T := TX5) (N := 8) hx hb hts in_X5 tyX5 tyX5_ok nmX5 hown hK.1 hP hD hS 2 rfl rfl 5 (Nat.le_of_ble_eq_true rfl) ((hK.2.1.1 _ (List.mem_of_getElem? (i := 35) rfl)).use rfl) (fun _ h => h) rfl (tyX5_ok 5 (Nat.le_of_ble_eq_true rfl)) rfl rfl (Nat.le_of_ble_eq_true rfl) dX13_can_124 (fun H locs hP hD hS => ?_)
        have hP : va_P G.1 zcl ((aW_ G aA a_what (nI an)) ++ (lW_ G lA uA l_state l_done l_missed l_nights l_storms l_births l_over l_left) ++ (hW G uA tA uA_bo uA_st uA_se ulit (nI an) unight uoil uborn ustays useen) ++ (tW G tA tA_be tA_le tA_mo tA_rn tA_cn tA_bo tA_st (nI Wd) (nI R) thouses talways tnever (nI nr) (nI nc) tring tbeside tleast tmost trnames)) H := hP
        have hD : va_D A ((aW_ G aA a_what (nI an)) ++ (lW_ G lA uA l_state l_done l_missed l_nights l_storms l_births l_over l_left) ++ (hW G uA tA uA_bo uA_st uA_se ulit (nI an) unight uoil uborn ustays useen) ++ (tW G tA tA_be tA_le tA_mo tA_rn tA_cn tA_bo tA_st (nI Wd) (nI R) thouses talways tnever (nI nr) (nI nc) tring tbeside tleast tmost trnames)) := hD
        refine lv_iconst (v := 1) hx hb dX13_can_127 (by decide) ?_
        have e_ : yf_can a_what an l_state l_nights l_storms l_births l_over ulit umayor unight uoil uborn ustays useen Wd R thouses talways tnever nr nc tbeside tleast tmost = (true, l_state, l_nights, l_storms, l_births, l_over, ulit, nI an, unight, uoil, useen) := by rw [yf_can, if_neg c_1, if_neg c_4, if_pos c_6]
        exact zr_mz hx hb hr hlocks hP hD hS dX13_can_128 rfl (by rw [e_]; rfl) (by rw [e_]) (by rw [e_]; exact (by first | exact hmy | exact hem | assumption | exact Or.inr ⟨nI_pos (by omega), by rw [nI_clamp (by omega)]; exact hmw (by assumption)⟩))
      · rcases Classical.em (a_what = 3) with c_7 | c_7
        · refine lv_tableIn (off := 120) (tgt := 129) hx hb dX13_can_9 (by rw [c_7]; decide) (by rw [c_7]; decide) (by rw [c_7]; rfl) (by decide) ?_
          refine lv_aload_n hx hb dX13_can_129 rfl (lv_at hl 0 rfl) ?_
          refine zr_muVs (F := hf_elects ulit umayor uborn ustays Wd R thouses talways tnever nr nc tbeside tleast tmost) (ff := fun t_8 => True) (rr := fun t_8 => some (.int (zb t_8.1))) (w1 := fun t_8 => ((hW G uA tA uA_bo uA_st uA_se ulit t_8.2 unight uoil uborn ustays useen) ++ (tW G tA tA_be tA_le tA_mo tA_rn tA_cn tA_bo tA_st (nI Wd) (nI R) thouses talways tnever (nI nr) (nI nc) tring tbeside tleast tmost trnames))) (wn := fun t_8 => ((aW_ G aA a_what (nI an)) ++ (lW_ G lA uA l_state l_done l_missed l_nights l_storms l_births l_over l_left) ++ (hW G uA tA uA_bo uA_st uA_se ulit t_8.2 unight uoil uborn ustays useen) ++ (tW G tA tA_be tA_le tA_mo tA_rn tA_cn tA_bo tA_st (nI Wd) (nI R) thouses talways tnever (nI nr) (nI nc) tring tbeside tleast tmost trnames))) (wr := [(aA, .inr (11, [.int a_what, .int (nI an)])), (lA, .inr (12, [.ref uA, .int l_state, .int l_done, .int l_missed, .int l_nights, .int l_storms, .int l_births, .int (zb l_over), .int (zb l_left)]))]) [2, 3, 4, 5, 6, 7, 8, 9, 10] [0, 1] [0, 1, 2, 3, 4, 5, 6, 7, 8, 9, 10] rfl rfl rfl rfl (by decide) rfl (fun _ => rfl) ⟨hx, hb, hml, hown, hts⟩ (mt_hf_elects l G uA tA uA_bo uA_st uA_se ulit umayor unight uoil uborn ustays useen tA_be tA_le tA_mo tA_rn tA_cn tA_bo tA_st Wd R thouses talways tnever nr nc tring tbeside tleast tmost trnames hT H.size) (cwV 0 hts (lw_V q1399 q1283 q1284 q142 q1285) rfl rfl rfl hd_X5_elects ⟨(Nat.le_of_ble_eq_true rfl), (Nat.le_of_ble_eq_true rfl)⟩) hP hD hS hA hK hE 5 rfl rfl rfl hl.1 rfl (Nat.le_of_ble_eq_true rfl) dX13_can_130 ⟨Nat.le_refl _, Nat.le_refl _⟩ (fun t_8 ht_8 hft_8 H locs hP hD hS _ => ?_)
          refine W.eq (g2 := F0 m 133 ls [.int (zb t_8.1)]) rfl ?_
          have hem := elects_my ht_8 hmy hn4
          have e_ : yf_can a_what an l_state l_nights l_storms l_births l_over ulit umayor unight uoil uborn ustays useen Wd R thouses talways tnever nr nc tbeside tleast tmost = (t_8.1, l_state, l_nights, l_storms, l_births, l_over, ulit, t_8.2, unight, uoil, useen) := by rw [yf_can, if_neg c_1, if_neg c_4, if_neg c_6, if_pos c_7, zlet_eq ht_8]
          exact zr_mz hx hb hr hlocks hP hD hS dX13_can_133 zb_nar (by rw [e_]) (by rw [e_]) (by rw [e_]; exact (by first | exact hmy | exact hem | assumption | exact Or.inr ⟨nI_pos (by omega), by rw [nI_clamp (by omega)]; exact hmw (by assumption)⟩))
        · rcases Classical.em (a_what = 4) with c_9 | c_9
          · refine lv_tableIn (off := 125) (tgt := 134) hx hb dX13_can_9 (by rw [c_9]; decide) (by rw [c_9]; decide) (by rw [c_9]; rfl) (by decide) ?_
            refine lv_aload_n hx hb dX13_can_134 rfl (lv_at hl 1 rfl) ?_
            refine lv_aload_n hx hb dX13_can_135 rfl (lv_at hl 2 rfl) ?_
            refine lv_aload_n hx hb dX13_can_136 rfl (lv_at hl 0 rfl) ?_
            refine zr_muV (F := yf_storm an l_state l_storms ulit Wd R thouses talways tnever) (ff := fun t_10 => True) (rr := fun t_10 => none) (w1 := fun t_10 => ((aW_ G aA a_what (nI an)) ++ (lW_ G lA uA t_10.1 l_done l_missed l_nights t_10.2.1 l_births l_over l_left) ++ (hW G uA tA uA_bo uA_st uA_se t_10.2.2 umayor unight uoil uborn ustays useen) ++ (tW G tA tA_be tA_le tA_mo tA_rn tA_cn tA_bo tA_st (nI Wd) (nI R) thouses talways tnever (nI nr) (nI nc) tring tbeside tleast tmost trnames))) ⟨hx, hb, hml, hown, hts⟩ (mt_yf_storm l G aA a_what an lA uA l_state l_done l_missed l_nights l_storms l_births l_over l_left tA uA_bo uA_st uA_se ulit umayor unight uoil uborn ustays useen tA_be tA_le tA_mo tA_rn tA_cn tA_bo tA_st Wd R thouses talways tnever nr nc tring tbeside tleast tmost trnames hT hmy hbe han H.size) (cwV 2 hts (lw_V q1400 q1402 qs56 q161 q1403) rfl rfl rfl hd_X13_storm ⟨(Nat.le_of_ble_eq_true rfl), (Nat.le_of_ble_eq_true rfl)⟩) hP hD hS hA hK hE 0 11 rfl rfl rfl hl.1 rfl (Nat.le_of_ble_eq_true rfl) dX13_can_137 ⟨Nat.le_refl _, Nat.le_refl _⟩ (fun t_10 ht_10 hft_10 H locs hP hD hS _ => ?_)
            refine W.eq (g2 := F0 m 140 ls []) rfl ?_
            refine lv_iconst (v := 1) hx hb dX13_can_140 (by decide) ?_
            have e_ : yf_can a_what an l_state l_nights l_storms l_births l_over ulit umayor unight uoil uborn ustays useen Wd R thouses talways tnever nr nc tbeside tleast tmost = (true, t_10.1, l_nights, t_10.2.1, l_births, l_over, t_10.2.2, umayor, unight, uoil, useen) := by rw [yf_can, if_neg c_1, if_neg c_4, if_neg c_6, if_neg c_7, if_pos c_9, zlet_eq ht_10]
            exact zr_mz hx hb hr hlocks hP hD hS dX13_can_141 rfl (by rw [e_]; rfl) (by rw [e_]) (by rw [e_]; exact (by first | exact hmy | exact hem | assumption | exact Or.inr ⟨nI_pos (by omega), by rw [nI_clamp (by omega)]; exact hmw (by assumption)⟩))
          · rcases Classical.em (a_what = 5) with c_11 | c_11
            · refine lv_tableIn (off := 133) (tgt := 142) hx hb dX13_can_9 (by rw [c_11]; decide) (by rw [c_11]; decide) (by rw [c_11]; rfl) (by decide) ?_
              refine lv_aload_n hx hb dX13_can_142 rfl (lv_at hl 1 rfl) ?_
              refine lv_aload_n hx hb dX13_can_143 rfl (lv_at hl 2 rfl) ?_
              refine lv_aload_n hx hb dX13_can_144 rfl (lv_at hl 0 rfl) ?_
              refine zr_muV (F := yf_birth l_state l_births ulit Wd R thouses talways tnever) (ff := fun t_12 => True) (rr := fun t_12 => some (.int (zb t_12.1))) (w1 := fun t_12 => ((aW_ G aA a_what (nI an)) ++ (lW_ G lA uA t_12.2.1 l_done l_missed l_nights l_storms t_12.2.2.1 l_over l_left) ++ (hW G uA tA uA_bo uA_st uA_se t_12.2.2.2 umayor unight uoil uborn ustays useen) ++ (tW G tA tA_be tA_le tA_mo tA_rn tA_cn tA_bo tA_st (nI Wd) (nI R) thouses talways tnever (nI nr) (nI nc) tring tbeside tleast tmost trnames))) ⟨hx, hb, hml, hown, hts⟩ (mt_yf_birth l G aA a_what an lA uA l_state l_done l_missed l_nights l_storms l_births l_over l_left tA uA_bo uA_st uA_se ulit umayor unight uoil uborn ustays useen tA_be tA_le tA_mo tA_rn tA_cn tA_bo tA_st Wd R thouses talways tnever nr nc tring tbeside tleast tmost trnames hT hmy hbe han H.size) (cwV 2 hts (lw_V q1410 q1412 qs57 q161 q1413) rfl rfl rfl hd_X13_birth ⟨(Nat.le_of_ble_eq_true rfl), (Nat.le_of_ble_eq_true rfl)⟩) hP hD hS hA hK hE 0 11 rfl rfl rfl hl.1 rfl (Nat.le_of_ble_eq_true rfl) dX13_can_145 ⟨Nat.le_refl _, Nat.le_refl _⟩ (fun t_12 ht_12 hft_12 H locs hP hD hS _ => ?_)
              refine W.eq (g2 := F0 m 148 ls [.int (zb t_12.1)]) rfl ?_
              have e_ : yf_can a_what an l_state l_nights l_storms l_births l_over ulit umayor unight uoil uborn ustays useen Wd R thouses talways tnever nr nc tbeside tleast tmost = (t_12.1, t_12.2.1, l_nights, l_storms, t_12.2.2.1, l_over, t_12.2.2.2, umayor, unight, uoil, useen) := by rw [yf_can, if_neg c_1, if_neg c_4, if_neg c_6, if_neg c_7, if_neg c_9, if_pos c_11, zlet_eq ht_12]
              exact zr_mz hx hb hr hlocks hP hD hS dX13_can_148 zb_nar (by rw [e_]) (by rw [e_]) (by rw [e_]; exact (by first | exact hmy | exact hem | assumption | exact Or.inr ⟨nI_pos (by omega), by rw [nI_clamp (by omega)]; exact hmw (by assumption)⟩))
            · refine lv_tableOut (tgt := 149) hx hb dX13_can_9 (z_out a_what (lo := 0) (hi := 5) (fun z h1 h2 => have h3 : z = 0 ∨ z = 1 ∨ z = 2 ∨ z = 3 ∨ z = 4 ∨ z = 5 := (by omega); (h3.elim (fun h3 => z_outq c_1 (by decide) h3) (fun h3 => (h3.elim (fun h3 => z_outq c_4 (by decide) h3) (fun h3 => (h3.elim (fun h3 => z_outq c_6 (by decide) h3) (fun h3 => (h3.elim (fun h3 => z_outq c_7 (by decide) h3) (fun h3 => (h3.elim (fun h3 => z_outq c_9 (by decide) h3) (fun h3 => (z_outq c_11 (by decide) h3))))))))))))) (by decide) ?_
              refine lv_aload_n hx hb dX13_can_149 rfl (lv_at hl 2 rfl) ?_
              refine lv_iconst (v := 1) hx hb dX13_can_150 (by decide) ?_
              refine va_putN (D := G.1) (ci := 12) (v := .int 1) (ty := .boolean) (C := RX14) (T := TX14) (N := 9) hx hb hts in_X14 tyX14 tyX14_ok nmX14 hown hK.1 hP hD hS 1 rfl rfl 7 (Nat.le_of_ble_eq_true rfl) ((hK.2.1.1 _ (List.mem_of_getElem? (i := 36) rfl)).use rfl) (fun _ h => h) rfl (tyX14_ok 7 (Nat.le_of_ble_eq_true rfl)) rfl rfl (Nat.le_of_ble_eq_true rfl) dX13_can_151 (fun H locs hP hD hS => ?_)
              have hP : va_P G.1 zcl ((aW_ G aA a_what (nI an)) ++ (lW_ G lA uA l_state l_done l_missed l_nights l_storms l_births true l_left) ++ (hW G uA tA uA_bo uA_st uA_se ulit umayor unight uoil uborn ustays useen) ++ (tW G tA tA_be tA_le tA_mo tA_rn tA_cn tA_bo tA_st (nI Wd) (nI R) thouses talways tnever (nI nr) (nI nc) tring tbeside tleast tmost trnames)) H := hP
              have hD : va_D A ((aW_ G aA a_what (nI an)) ++ (lW_ G lA uA l_state l_done l_missed l_nights l_storms l_births true l_left) ++ (hW G uA tA uA_bo uA_st uA_se ulit umayor unight uoil uborn ustays useen) ++ (tW G tA tA_be tA_le tA_mo tA_rn tA_cn tA_bo tA_st (nI Wd) (nI R) thouses talways tnever (nI nr) (nI nc) tring tbeside tleast tmost trnames)) := hD
              refine lv_iconst (v := 1) hx hb dX13_can_154 (by decide) ?_
              have e_ : yf_can a_what an l_state l_nights l_storms l_births l_over ulit umayor unight uoil uborn ustays useen Wd R thouses talways tnever nr nc tbeside tleast tmost = (true, l_state, l_nights, l_storms, l_births, true, ulit, umayor, unight, uoil, useen) := by rw [yf_can, if_neg c_1, if_neg c_4, if_neg c_6, if_neg c_7, if_neg c_9, if_neg c_11]
              exact zr_mz hx hb hr hlocks hP hD hS dX13_can_155 rfl (by rw [e_]; rfl) (by rw [e_]) (by rw [e_]; exact (by first | exact hmy | exact hem | assumption | exact Or.inr ⟨nI_pos (by omega), by rw [nI_clamp (by omega)]; exact hmw (by assumption)⟩))
def yf_actdoes (a_what : Int32) (an : Nat) (l_state : Int32) (l_missed : Int32) (l_nights : Int32) (l_storms : Int32) (l_births : Int32) (l_over : Bool) (ulit : Int32) (umayor : Int32) (unight : Int32) (uoil : Int32) (uborn : Nat → Int32) (ustays : Nat → Int32) (useen : Nat → Int32) (Wd : Nat) (R : Nat) (thouses : Int32) (talways : Int32) (tnever : Int32) (nr : Nat) (nc : Nat) (tbeside : Nat → Int32) (tleast : Nat → Int32) (tmost : Nat → Int32) : Int32 × Int32 × Int32 × Int32 × Int32 × Bool × Int32 × Int32 × Int32 × Int32 × (Nat → Int32) :=
  zlet (yf_can a_what an l_state l_nights l_storms l_births l_over ulit umayor unight uoil uborn ustays useen Wd R thouses talways tnever nr nc tbeside tleast tmost) (fun t_1 =>
  (if t_1.1 = true then
    (t_1.2.1, l_missed, t_1.2.2.1, t_1.2.2.2.1, t_1.2.2.2.2.1, t_1.2.2.2.2.2.1, t_1.2.2.2.2.2.2.1, t_1.2.2.2.2.2.2.2.1, t_1.2.2.2.2.2.2.2.2.1, t_1.2.2.2.2.2.2.2.2.2.1, t_1.2.2.2.2.2.2.2.2.2.2)
  else
    (t_1.2.1, l_missed + 1, t_1.2.2.1, t_1.2.2.2.1, t_1.2.2.2.2.1, t_1.2.2.2.2.2.1, t_1.2.2.2.2.2.2.1, t_1.2.2.2.2.2.2.2.1, t_1.2.2.2.2.2.2.2.2.1, t_1.2.2.2.2.2.2.2.2.2.1, t_1.2.2.2.2.2.2.2.2.2.2)))
theorem hd_X13_does : yX13_does.cls = RX13 ∧ yX13_does.cls ≠ "java/lang/invoke/MethodHandle" ∧ yX13_does.cls ≠ "java/lang/invoke/VarHandle" ∧ (parseMethodDescriptor yX13_does.desc).map (fun d => d.parameters.length) = some 1 := by decide +kernel
set_option maxHeartbeats 4000000 in
set_option maxRecDepth 100000 in
theorem mt_yf_actdoes (l : Launch) (G : zG) (aA : Nat) (a_what : Int32) (an : Nat) (lA : Nat) (uA : Nat) (l_state : Int32) (l_done : Int32) (l_missed : Int32) (l_nights : Int32) (l_storms : Int32) (l_births : Int32) (l_over : Bool) (l_left : Bool) (tA : Nat) (uA_bo : Nat) (uA_st : Nat) (uA_se : Nat) (ulit : Int32) (umayor : Int32) (unight : Int32) (uoil : Int32) (uborn : Nat → Int32) (ustays : Nat → Int32) (useen : Nat → Int32) (tA_be : Nat) (tA_le : Nat) (tA_mo : Nat) (tA_rn : Nat) (tA_cn : Nat) (tA_bo : Nat) (tA_st : Nat) (Wd : Nat) (R : Nat) (thouses : Int32) (talways : Int32) (tnever : Int32) (nr : Nat) (nc : Nat) (tring : Bool) (tbeside : Nat → Int32) (tleast : Nat → Int32) (tmost : Nat → Int32) (trnames : Nat → Int64) (hT : tOK Wd R nr nc) (hmy : umayor < 0 ∨ (¬ umayor < 0 ∧ umayor.toNatClampNeg < nr)) (hbe : ∀ k, k < Wd * R → zpc (tbeside k) ≤ 4) (han : an ≤ 99) (hmw : a_what = 2 → an < nr) (sz : Nat) : Met l yX13_does (ws_ yX13_does cX13_does 2 none) (zR 8 0 0) (zPm G sz [.ref aA, .ref lA] ((aW_ G aA a_what (nI an)) ++ (lW_ G lA uA l_state l_done l_missed l_nights l_storms l_births l_over l_left) ++ (hW G uA tA uA_bo uA_st uA_se ulit umayor unight uoil uborn ustays useen) ++ (tW G tA tA_be tA_le tA_mo tA_rn tA_cn tA_bo tA_st (nI Wd) (nI R) thouses talways tnever (nI nr) (nI nc) tring tbeside tleast tmost trnames))) (zQm G ((((yf_actdoes a_what an l_state l_missed l_nights l_storms l_births l_over ulit umayor unight uoil uborn ustays useen Wd R thouses talways tnever nr nc tbeside tleast tmost).2.2.2.2.2.2.2.1) < 0 ∨ (¬ ((yf_actdoes a_what an l_state l_missed l_nights l_storms l_births l_over ulit umayor unight uoil uborn ustays useen Wd R thouses talways tnever nr nc tbeside tleast tmost).2.2.2.2.2.2.2.1) < 0 ∧ (((yf_actdoes a_what an l_state l_missed l_nights l_storms l_births l_over ulit umayor unight uoil uborn ustays useen Wd R thouses talways tnever nr nc tbeside tleast tmost).2.2.2.2.2.2.2.1)).toNatClampNeg < nr))) none ((aW_ G aA a_what (nI an)) ++ (lW_ G lA uA ((yf_actdoes a_what an l_state l_missed l_nights l_storms l_births l_over ulit umayor unight uoil uborn ustays useen Wd R thouses talways tnever nr nc tbeside tleast tmost).1) l_done ((yf_actdoes a_what an l_state l_missed l_nights l_storms l_births l_over ulit umayor unight uoil uborn ustays useen Wd R thouses talways tnever nr nc tbeside tleast tmost).2.1) ((yf_actdoes a_what an l_state l_missed l_nights l_storms l_births l_over ulit umayor unight uoil uborn ustays useen Wd R thouses talways tnever nr nc tbeside tleast tmost).2.2.1) ((yf_actdoes a_what an l_state l_missed l_nights l_storms l_births l_over ulit umayor unight uoil uborn ustays useen Wd R thouses talways tnever nr nc tbeside tleast tmost).2.2.2.1) ((yf_actdoes a_what an l_state l_missed l_nights l_storms l_births l_over ulit umayor unight uoil uborn ustays useen Wd R thouses talways tnever nr nc tbeside tleast tmost).2.2.2.2.1) ((yf_actdoes a_what an l_state l_missed l_nights l_storms l_births l_over ulit umayor unight uoil uborn ustays useen Wd R thouses talways tnever nr nc tbeside tleast tmost).2.2.2.2.2.1) l_left) ++ (hW G uA tA uA_bo uA_st uA_se ((yf_actdoes a_what an l_state l_missed l_nights l_storms l_births l_over ulit umayor unight uoil uborn ustays useen Wd R thouses talways tnever nr nc tbeside tleast tmost).2.2.2.2.2.2.1) ((yf_actdoes a_what an l_state l_missed l_nights l_storms l_births l_over ulit umayor unight uoil uborn ustays useen Wd R thouses talways tnever nr nc tbeside tleast tmost).2.2.2.2.2.2.2.1) ((yf_actdoes a_what an l_state l_missed l_nights l_storms l_births l_over ulit umayor unight uoil uborn ustays useen Wd R thouses talways tnever nr nc tbeside tleast tmost).2.2.2.2.2.2.2.2.1) ((yf_actdoes a_what an l_state l_missed l_nights l_storms l_births l_over ulit umayor unight uoil uborn ustays useen Wd R thouses talways tnever nr nc tbeside tleast tmost).2.2.2.2.2.2.2.2.2.1) uborn ustays ((yf_actdoes a_what an l_state l_missed l_nights l_storms l_births l_over ulit umayor unight uoil uborn ustays useen Wd R thouses talways tnever nr nc tbeside tleast tmost).2.2.2.2.2.2.2.2.2.2)) ++ (tW G tA tA_be tA_le tA_mo tA_rn tA_cn tA_bo tA_st (nI Wd) (nI R) thouses talways tnever (nI nr) (nI nc) tring tbeside tleast tmost trnames)) (va_A ((aW_ G aA a_what (nI an)) ++ (lW_ G lA uA l_state l_done l_missed l_nights l_storms l_births l_over l_left) ++ (hW G uA tA uA_bo uA_st uA_se ulit umayor unight uoil uborn ustays useen) ++ (tW G tA tA_be tA_le tA_mo tA_rn tA_cn tA_bo tA_st (nI Wd) (nI R) thouses talways tnever (nI nr) (nI nc) tring tbeside tleast tmost trnames)) sz)) 0 0 (va_A ((aW_ G aA a_what (nI an)) ++ (lW_ G lA uA l_state l_done l_missed l_nights l_storms l_births l_over l_left) ++ (hW G uA tA uA_bo uA_st uA_se ulit umayor unight uoil uborn ustays useen) ++ (tW G tA tA_be tA_le tA_mo tA_rn tA_cn tA_bo tA_st (nI Wd) (nI R) thouses talways tnever (nI nr) (nI nc) tring tbeside tleast tmost trnames)) sz) := by
  refine zr_entM (by decide) (Nat.le_of_ble_eq_true rfl) ?_
  intro p e s m below meth c ⟨hx, hb, hr, hml, hown, hts, hlocks, hnm⟩ ls hl hP hK A hE hA hD hS
  have hown : s.vm.findClass RX13 = some m.cls := hown
  have hl : lv_has ls 2 [(0, .ref aA), (1, .ref lA)] := hl
  obtain ⟨H, hH⟩ : ∃ H, H = s.heap := ⟨_, rfl⟩
  obtain ⟨locs, hlo⟩ : ∃ L : List Loc, L = [] := ⟨_, rfl⟩
  rw [← hH] at hP
  have hS : va_S A s.heap H locs := by rw [hH, hlo]; exact va_S.rf
  have hgo : W p l e (zR 8 0 0) s m ([.ref aA, .ref lA] : List Value).toArray below meth c H locs 0 0 (MQ below (zQm G ((((yf_actdoes a_what an l_state l_missed l_nights l_storms l_births l_over ulit umayor unight uoil uborn ustays useen Wd R thouses talways tnever nr nc tbeside tleast tmost).2.2.2.2.2.2.2.1) < 0 ∨ (¬ ((yf_actdoes a_what an l_state l_missed l_nights l_storms l_births l_over ulit umayor unight uoil uborn ustays useen Wd R thouses talways tnever nr nc tbeside tleast tmost).2.2.2.2.2.2.2.1) < 0 ∧ (((yf_actdoes a_what an l_state l_missed l_nights l_storms l_births l_over ulit umayor unight uoil uborn ustays useen Wd R thouses talways tnever nr nc tbeside tleast tmost).2.2.2.2.2.2.2.1)).toNatClampNeg < nr))) none ((aW_ G aA a_what (nI an)) ++ (lW_ G lA uA ((yf_actdoes a_what an l_state l_missed l_nights l_storms l_births l_over ulit umayor unight uoil uborn ustays useen Wd R thouses talways tnever nr nc tbeside tleast tmost).1) l_done ((yf_actdoes a_what an l_state l_missed l_nights l_storms l_births l_over ulit umayor unight uoil uborn ustays useen Wd R thouses talways tnever nr nc tbeside tleast tmost).2.1) ((yf_actdoes a_what an l_state l_missed l_nights l_storms l_births l_over ulit umayor unight uoil uborn ustays useen Wd R thouses talways tnever nr nc tbeside tleast tmost).2.2.1) ((yf_actdoes a_what an l_state l_missed l_nights l_storms l_births l_over ulit umayor unight uoil uborn ustays useen Wd R thouses talways tnever nr nc tbeside tleast tmost).2.2.2.1) ((yf_actdoes a_what an l_state l_missed l_nights l_storms l_births l_over ulit umayor unight uoil uborn ustays useen Wd R thouses talways tnever nr nc tbeside tleast tmost).2.2.2.2.1) ((yf_actdoes a_what an l_state l_missed l_nights l_storms l_births l_over ulit umayor unight uoil uborn ustays useen Wd R thouses talways tnever nr nc tbeside tleast tmost).2.2.2.2.2.1) l_left) ++ (hW G uA tA uA_bo uA_st uA_se ((yf_actdoes a_what an l_state l_missed l_nights l_storms l_births l_over ulit umayor unight uoil uborn ustays useen Wd R thouses talways tnever nr nc tbeside tleast tmost).2.2.2.2.2.2.1) ((yf_actdoes a_what an l_state l_missed l_nights l_storms l_births l_over ulit umayor unight uoil uborn ustays useen Wd R thouses talways tnever nr nc tbeside tleast tmost).2.2.2.2.2.2.2.1) ((yf_actdoes a_what an l_state l_missed l_nights l_storms l_births l_over ulit umayor unight uoil uborn ustays useen Wd R thouses talways tnever nr nc tbeside tleast tmost).2.2.2.2.2.2.2.2.1) ((yf_actdoes a_what an l_state l_missed l_nights l_storms l_births l_over ulit umayor unight uoil uborn ustays useen Wd R thouses talways tnever nr nc tbeside tleast tmost).2.2.2.2.2.2.2.2.2.1) uborn ustays ((yf_actdoes a_what an l_state l_missed l_nights l_storms l_births l_over ulit umayor unight uoil uborn ustays useen Wd R thouses talways tnever nr nc tbeside tleast tmost).2.2.2.2.2.2.2.2.2.2)) ++ (tW G tA tA_be tA_le tA_mo tA_rn tA_cn tA_bo tA_st (nI Wd) (nI R) thouses talways tnever (nI nr) (nI nc) tring tbeside tleast tmost trnames)) A) ([.ref aA, .ref lA] : List Value).toArray s 0 0 A) (F0 m 0 ls []) := ?_
  · rw [hH, hlo] at hgo; exact hgo
  clear hH hlo
  have hTT := hT
  obtain ⟨hW0, hW5, hR0, hR6, hn4, hc6, hWR⟩ := hTT
  refine lv_aload_n hx hb dX13_does_0 rfl (lv_at hl 0 rfl) ?_
  refine lv_aload_n hx hb dX13_does_1 rfl (lv_at hl 1 rfl) ?_
  refine zr_muV (F := yf_can a_what an l_state l_nights l_storms l_births l_over ulit umayor unight uoil uborn ustays useen Wd R thouses talways tnever nr nc tbeside tleast tmost) (ff := fun t_1 => (t_1.2.2.2.2.2.2.2.1 < 0 ∨ (¬ t_1.2.2.2.2.2.2.2.1 < 0 ∧ (t_1.2.2.2.2.2.2.2.1).toNatClampNeg < nr))) (rr := fun t_1 => some (.int (zb t_1.1))) (w1 := fun t_1 => ((aW_ G aA a_what (nI an)) ++ (lW_ G lA uA t_1.2.1 l_done l_missed t_1.2.2.1 t_1.2.2.2.1 t_1.2.2.2.2.1 t_1.2.2.2.2.2.1 l_left) ++ (hW G uA tA uA_bo uA_st uA_se t_1.2.2.2.2.2.2.1 t_1.2.2.2.2.2.2.2.1 t_1.2.2.2.2.2.2.2.2.1 t_1.2.2.2.2.2.2.2.2.2.1 uborn ustays t_1.2.2.2.2.2.2.2.2.2.2) ++ (tW G tA tA_be tA_le tA_mo tA_rn tA_cn tA_bo tA_st (nI Wd) (nI R) thouses talways tnever (nI nr) (nI nc) tring tbeside tleast tmost trnames))) ⟨hx, hb, hml, hown, hts⟩ (mt_yf_can l G aA a_what an lA uA l_state l_done l_missed l_nights l_storms l_births l_over l_left tA uA_bo uA_st uA_se ulit umayor unight uoil uborn ustays useen tA_be tA_le tA_mo tA_rn tA_cn tA_bo tA_st Wd R thouses talways tnever nr nc tring tbeside tleast tmost trnames hT hmy hbe han hmw H.size) (cwV 1 hts (lw_V q1393 q1395 qs55 q161 q1396) rfl rfl rfl hd_X13_can ⟨(Nat.le_of_ble_eq_true rfl), (Nat.le_of_ble_eq_true rfl)⟩) hP hD hS hA hK hE 0 11 rfl rfl rfl hl.1 rfl (Nat.le_of_ble_eq_true rfl) dX13_does_2 ⟨Nat.le_refl _, Nat.le_refl _⟩ (fun t_1 ht_1 hft_1 H locs hP hD hS _ => ?_)
  refine W.eq (g2 := F0 m 5 ls [.int (zb t_1.1)]) rfl ?_
  have hmy_t_1 := hft_1
  refine zr_neB t_1.1 (tgt := 18) hx hb dX13_does_5 (by decide) (fun c_2 => ?_) (fun c_2 => ?_)
  · have e_ : yf_actdoes a_what an l_state l_missed l_nights l_storms l_births l_over ulit umayor unight uoil uborn ustays useen Wd R thouses talways tnever nr nc tbeside tleast tmost = (t_1.2.1, l_missed, t_1.2.2.1, t_1.2.2.2.1, t_1.2.2.2.2.1, t_1.2.2.2.2.2.1, t_1.2.2.2.2.2.2.1, t_1.2.2.2.2.2.2.2.1, t_1.2.2.2.2.2.2.2.2.1, t_1.2.2.2.2.2.2.2.2.2.1, t_1.2.2.2.2.2.2.2.2.2.2) := by rw [yf_actdoes, zlet_eq ht_1, if_pos c_2]
    exact zr_mv hx hb hr hlocks hP hD hS dX13_does_18 rfl (by rw [e_]) (by rw [e_]; exact (by first | rfl | exact Or.inl rfl | exact Or.inl (by assumption) | exact Or.inr (by assumption) | assumption | exact Or.inr (by dsimp only; omega) | omega | (dsimp only; omega) | (dsimp only; assumption)))
  · refine lv_aload_n hx hb dX13_does_8 rfl (lv_at hl 1 rfl) ?_
    refine lv_dup hx hb dX13_does_9 rfl ?_
    refine va_getN (D := G.1) (ci := 12) (v := .int l_missed) (C := RX14) (T := TX14) (N := 9) hx hb hts in_X14 hown hK.1 hP 1 rfl rfl 3 (Nat.le_of_ble_eq_true rfl) ((hK.2.1.1 _ (List.mem_of_getElem? (i := 41) rfl)).use rfl) (fun _ h => h) rfl dX13_does_10 ?_
    refine lv_iconst (v := 1) hx hb dX13_does_13 (by decide) ?_
    refine lv_iadd hx hb dX13_does_14 ?_
    refine va_putN (D := G.1) (ci := 12) (v := .int (l_missed + 1)) (ty := .int) (C := RX14) (T := TX14) (N := 9) hx hb hts in_X14 tyX14 tyX14_ok nmX14 hown hK.1 hP hD hS 1 rfl rfl 3 (Nat.le_of_ble_eq_true rfl) ((hK.2.1.1 _ (List.mem_of_getElem? (i := 41) rfl)).use rfl) (fun _ h => h) rfl (tyX14_ok 3 (Nat.le_of_ble_eq_true rfl)) rfl rfl (Nat.le_of_ble_eq_true rfl) dX13_does_15 (fun H locs hP hD hS => ?_)
    have hP : va_P G.1 zcl ((aW_ G aA a_what (nI an)) ++ (lW_ G lA uA t_1.2.1 l_done (l_missed + 1) t_1.2.2.1 t_1.2.2.2.1 t_1.2.2.2.2.1 t_1.2.2.2.2.2.1 l_left) ++ (hW G uA tA uA_bo uA_st uA_se t_1.2.2.2.2.2.2.1 t_1.2.2.2.2.2.2.2.1 t_1.2.2.2.2.2.2.2.2.1 t_1.2.2.2.2.2.2.2.2.2.1 uborn ustays t_1.2.2.2.2.2.2.2.2.2.2) ++ (tW G tA tA_be tA_le tA_mo tA_rn tA_cn tA_bo tA_st (nI Wd) (nI R) thouses talways tnever (nI nr) (nI nc) tring tbeside tleast tmost trnames)) H := hP
    have hD : va_D A ((aW_ G aA a_what (nI an)) ++ (lW_ G lA uA t_1.2.1 l_done (l_missed + 1) t_1.2.2.1 t_1.2.2.2.1 t_1.2.2.2.2.1 t_1.2.2.2.2.2.1 l_left) ++ (hW G uA tA uA_bo uA_st uA_se t_1.2.2.2.2.2.2.1 t_1.2.2.2.2.2.2.2.1 t_1.2.2.2.2.2.2.2.2.1 t_1.2.2.2.2.2.2.2.2.2.1 uborn ustays t_1.2.2.2.2.2.2.2.2.2.2) ++ (tW G tA tA_be tA_le tA_mo tA_rn tA_cn tA_bo tA_st (nI Wd) (nI R) thouses talways tnever (nI nr) (nI nc) tring tbeside tleast tmost trnames)) := hD
    have e_ : yf_actdoes a_what an l_state l_missed l_nights l_storms l_births l_over ulit umayor unight uoil uborn ustays useen Wd R thouses talways tnever nr nc tbeside tleast tmost = (t_1.2.1, l_missed + 1, t_1.2.2.1, t_1.2.2.2.1, t_1.2.2.2.2.1, t_1.2.2.2.2.2.1, t_1.2.2.2.2.2.2.1, t_1.2.2.2.2.2.2.2.1, t_1.2.2.2.2.2.2.2.2.1, t_1.2.2.2.2.2.2.2.2.2.1, t_1.2.2.2.2.2.2.2.2.2.2) := by rw [yf_actdoes, zlet_eq ht_1, if_neg c_2]
    exact zr_mv hx hb hr hlocks hP hD hS dX13_does_18 rfl (by rw [e_]) (by rw [e_]; exact (by first | rfl | exact Or.inl rfl | exact Or.inl (by assumption) | exact Or.inr (by assumption) | assumption | exact Or.inr (by dsimp only; omega) | omega | (dsimp only; omega) | (dsimp only; assumption)))
def yf_is (w_what : Int32) (w_num : Int32) (w_sign : Int32) (ulit : Int32) (umayor : Int32) (uborn : Nat → Int32) (ustays : Nat → Int32) (Wd : Nat) (R : Nat) (thouses : Int32) (talways : Int32) (tnever : Int32) (tbeside : Nat → Int32) : Bool :=
  (if w_what = 1 then
    (if ((ulit >>> (w_num &&& 31)) &&& 1) = 1 then
      true
    else
      false)
  else
    (if w_what = 2 then
      (if (hf_next umayor uborn ustays Wd R thouses talways tnever tbeside ulit) = ulit then
        true
      else
        false)
    else
      (if w_sign = 60 then
        (if w_num ≤ (nI (zpc ulit)) then
          false
        else
          true)
      else
        (if w_sign = 62 then
          (if (nI (zpc ulit)) ≤ w_num then
            false
          else
            true)
        else
          (if (nI (zpc ulit)) = w_num then
            true
          else
            false)))))
theorem hd_X12_is : yX12_is.cls = RX12 ∧ yX12_is.cls ≠ "java/lang/invoke/MethodHandle" ∧ yX12_is.cls ≠ "java/lang/invoke/VarHandle" ∧ (parseMethodDescriptor yX12_is.desc).map (fun d => d.parameters.length) = some 1 := by decide +kernel
set_option maxHeartbeats 4000000 in
set_option maxRecDepth 100000 in
theorem mt_yf_is (l : Launch) (G : zG) (wA : Nat) (w_st : Nat) (w_size : Int32) (w_what : Int32) (w_num : Int32) (w_sign : Int32) (uA : Nat) (tA : Nat) (uA_bo : Nat) (uA_st : Nat) (uA_se : Nat) (ulit : Int32) (umayor : Int32) (unight : Int32) (uoil : Int32) (uborn : Nat → Int32) (ustays : Nat → Int32) (useen : Nat → Int32) (tA_be : Nat) (tA_le : Nat) (tA_mo : Nat) (tA_rn : Nat) (tA_cn : Nat) (tA_bo : Nat) (tA_st : Nat) (Wd : Nat) (R : Nat) (thouses : Int32) (talways : Int32) (tnever : Int32) (nr : Nat) (nc : Nat) (tring : Bool) (tbeside : Nat → Int32) (tleast : Nat → Int32) (tmost : Nat → Int32) (trnames : Nat → Int64) (hT : tOK Wd R nr nc) (hmy : umayor < 0 ∨ (¬ umayor < 0 ∧ umayor.toNatClampNeg < nr)) (hbe : ∀ k, k < Wd * R → zpc (tbeside k) ≤ 4) : Met l yX12_is (ws_ yX12_is cX12_is 3 (some .boolean)) (zR 5 0 0) (zPo G [.ref wA, .ref uA] ((wW_ G wA w_st w_size w_what w_num w_sign) ++ (hW G uA tA uA_bo uA_st uA_se ulit umayor unight uoil uborn ustays useen) ++ (tW G tA tA_be tA_le tA_mo tA_rn tA_cn tA_bo tA_st (nI Wd) (nI R) thouses talways tnever (nI nr) (nI nc) tring tbeside tleast tmost trnames))) (k2_QcV (.int (zb (yf_is w_what w_num w_sign ulit umayor uborn ustays Wd R thouses talways tnever tbeside)))) 0 0 (fun _ => False) := by
  refine zr_entO (by decide) (Nat.le_of_ble_eq_true rfl) ?_
  intro p e s m below meth c ⟨hx, hb, hr, hml, hown, hts, hlocks, hnm⟩ ls hl hP hK hE
  have hown : s.vm.findClass RX12 = some m.cls := hown
  have hl : lv_has ls 3 [(0, .ref wA), (1, .ref uA)] := hl
  have hTT := hT
  obtain ⟨hW0, hW5, hR0, hR6, hn4, hc6, hWR⟩ := hTT
  refine lv_aload_n hx hb dX12_is_0 rfl (lv_at hl 0 rfl) ?_
  refine va_get (D := G.1) (ci := 10) (v := .int w_what) (C := RX12) (T := TX12) (N := 5) hx hb hts in_X12 hown hK.1 hP 0 rfl rfl 2 (Nat.le_of_ble_eq_true rfl) (hts _ q921) (fun _ h => h) rfl dX12_is_1 ?_
  refine lv_iconst (v := 1) hx hb dX12_is_4 (by decide) ?_
  refine lv_icmp_ne (tgt := 29) hx hb dX12_is_5 (by decide) (fun c_1 => ?_) (fun c_1 => ?_)
  · refine lv_aload_n hx hb dX12_is_29 rfl (lv_at hl 0 rfl) ?_
    refine va_get (D := G.1) (ci := 10) (v := .int w_what) (C := RX12) (T := TX12) (N := 5) hx hb hts in_X12 hown hK.1 hP 0 rfl rfl 2 (Nat.le_of_ble_eq_true rfl) (hts _ q921) (fun _ h => h) rfl dX12_is_30 ?_
    refine lv_iconst (v := 2) hx hb dX12_is_33 (by decide) ?_
    refine lv_icmp_ne (tgt := 58) hx hb dX12_is_34 (by decide) (fun c_2 => ?_) (fun c_2 => ?_)
    · refine lv_aload_n hx hb dX12_is_58 rfl (lv_at hl 1 rfl) ?_
      refine va_getN (D := G.1) (ci := 5) (v := .int ulit) (C := RX5) (T := TX5) (N := 8) hx hb hts in_X5 hown hK.1 hP 1 rfl rfl 4 (Nat.le_of_ble_eq_true rfl) ((hK.2.1.1 _ (List.mem_of_getElem? (i := 71) rfl)).use rfl) (fun _ h => h) rfl dX12_is_59 ?_
      refine zr_puS ⟨hx, hb, hml, hown, hts⟩ (mt_bitCountN l ulit) (va_cwS 1 hts (lw_S q1427 q854 q155 q855) rfl rfl rfl hd_J10_bitCount.2 ⟨(Nat.le_of_ble_eq_true rfl), (Nat.le_of_ble_eq_true rfl)⟩) rfl hl.1 rfl (Nat.le_of_ble_eq_true rfl) dX12_is_62 ⟨Nat.le_refl _, Nat.le_refl _⟩ ?_
      refine lv_istore_n (lv' := [(2, .int (nI (zpc ulit))), (0, .ref wA), (1, .ref uA)]) hx hb dX12_is_65 rfl hl (by decide) rfl (fun ls hl => ?_)
      refine lv_aload_n hx hb dX12_is_66 rfl (lv_at hl 1 rfl) ?_
      refine va_get (D := G.1) (ci := 10) (v := .int w_sign) (C := RX12) (T := TX12) (N := 5) hx hb hts in_X12 hown hK.1 hP 0 rfl rfl 4 (Nat.le_of_ble_eq_true rfl) (hts _ q923) (fun _ h => h) rfl dX12_is_67 ?_
      refine lv_bipush (v := 60) hx hb dX12_is_70 (by decide) ?_
      refine lv_icmp_ne (tgt := 91) hx hb dX12_is_72 (by decide) (fun c_3 => ?_) (fun c_3 => ?_)
      · refine lv_aload_n hx hb dX12_is_91 rfl (lv_at hl 1 rfl) ?_
        refine va_get (D := G.1) (ci := 10) (v := .int w_sign) (C := RX12) (T := TX12) (N := 5) hx hb hts in_X12 hown hK.1 hP 0 rfl rfl 4 (Nat.le_of_ble_eq_true rfl) (hts _ q923) (fun _ h => h) rfl dX12_is_92 ?_
        refine lv_bipush (v := 62) hx hb dX12_is_95 (by decide) ?_
        refine lv_icmp_ne (tgt := 116) hx hb dX12_is_97 (by decide) (fun c_4 => ?_) (fun c_4 => ?_)
        · refine lv_iload_n hx hb dX12_is_116 rfl (lv_at hl 0 rfl) ?_
          refine lv_aload_n hx hb dX12_is_117 rfl (lv_at hl 1 rfl) ?_
          refine va_get (D := G.1) (ci := 10) (v := .int w_num) (C := RX12) (T := TX12) (N := 5) hx hb hts in_X12 hown hK.1 hP 0 rfl rfl 3 (Nat.le_of_ble_eq_true rfl) (hts _ q922) (fun _ h => h) rfl dX12_is_118 ?_
          refine lv_icmp_ne (tgt := 128) hx hb dX12_is_121 (by decide) (fun c_5 => ?_) (fun c_5 => ?_)
          · refine lv_iconst (v := 0) hx hb dX12_is_128 (by decide) ?_
            have e_ : yf_is w_what w_num w_sign ulit umayor uborn ustays Wd R thouses talways tnever tbeside = false := by rw [yf_is, if_neg c_1, if_neg c_2, if_neg c_3, if_neg c_4, if_neg c_5]
            exact zr_oz hx hb hr hlocks dX12_is_129 rfl (congrArg (fun z => Value.int (zb z)) e_)
          · refine lv_iconst (v := 1) hx hb dX12_is_124 (by decide) ?_
            refine lv_goto (tgt := 129) hx hb dX12_is_125 (by decide) ?_
            have e_ : yf_is w_what w_num w_sign ulit umayor uborn ustays Wd R thouses talways tnever tbeside = true := by rw [yf_is, if_neg c_1, if_neg c_2, if_neg c_3, if_neg c_4, if_pos c_5]
            exact zr_oz hx hb hr hlocks dX12_is_129 rfl (congrArg (fun z => Value.int (zb z)) e_)
        · refine lv_iload_n hx hb dX12_is_100 rfl (lv_at hl 0 rfl) ?_
          refine lv_aload_n hx hb dX12_is_101 rfl (lv_at hl 1 rfl) ?_
          refine va_get (D := G.1) (ci := 10) (v := .int w_num) (C := RX12) (T := TX12) (N := 5) hx hb hts in_X12 hown hK.1 hP 0 rfl rfl 3 (Nat.le_of_ble_eq_true rfl) (hts _ q922) (fun _ h => h) rfl dX12_is_102 ?_
          refine lv_icmp_le (tgt := 112) hx hb dX12_is_105 (by decide) (fun c_6 => ?_) (fun c_6 => ?_)
          · refine lv_iconst (v := 0) hx hb dX12_is_112 (by decide) ?_
            refine lv_goto (tgt := 129) hx hb dX12_is_113 (by decide) ?_
            have e_ : yf_is w_what w_num w_sign ulit umayor uborn ustays Wd R thouses talways tnever tbeside = false := by rw [yf_is, if_neg c_1, if_neg c_2, if_neg c_3, if_pos c_4, if_pos c_6]
            exact zr_oz hx hb hr hlocks dX12_is_129 rfl (congrArg (fun z => Value.int (zb z)) e_)
          · refine lv_iconst (v := 1) hx hb dX12_is_108 (by decide) ?_
            refine lv_goto (tgt := 129) hx hb dX12_is_109 (by decide) ?_
            have e_ : yf_is w_what w_num w_sign ulit umayor uborn ustays Wd R thouses talways tnever tbeside = true := by rw [yf_is, if_neg c_1, if_neg c_2, if_neg c_3, if_pos c_4, if_neg c_6]
            exact zr_oz hx hb hr hlocks dX12_is_129 rfl (congrArg (fun z => Value.int (zb z)) e_)
      · refine lv_iload_n hx hb dX12_is_75 rfl (lv_at hl 0 rfl) ?_
        refine lv_aload_n hx hb dX12_is_76 rfl (lv_at hl 1 rfl) ?_
        refine va_get (D := G.1) (ci := 10) (v := .int w_num) (C := RX12) (T := TX12) (N := 5) hx hb hts in_X12 hown hK.1 hP 0 rfl rfl 3 (Nat.le_of_ble_eq_true rfl) (hts _ q922) (fun _ h => h) rfl dX12_is_77 ?_
        refine lv_icmp_ge (tgt := 87) hx hb dX12_is_80 (by decide) (fun c_7 => ?_) (fun c_7 => ?_)
        · refine lv_iconst (v := 0) hx hb dX12_is_87 (by decide) ?_
          refine lv_goto (tgt := 129) hx hb dX12_is_88 (by decide) ?_
          have e_ : yf_is w_what w_num w_sign ulit umayor uborn ustays Wd R thouses talways tnever tbeside = false := by rw [yf_is, if_neg c_1, if_neg c_2, if_pos c_3, if_pos c_7]
          exact zr_oz hx hb hr hlocks dX12_is_129 rfl (congrArg (fun z => Value.int (zb z)) e_)
        · refine lv_iconst (v := 1) hx hb dX12_is_83 (by decide) ?_
          refine lv_goto (tgt := 129) hx hb dX12_is_84 (by decide) ?_
          have e_ : yf_is w_what w_num w_sign ulit umayor uborn ustays Wd R thouses talways tnever tbeside = true := by rw [yf_is, if_neg c_1, if_neg c_2, if_pos c_3, if_neg c_7]
          exact zr_oz hx hb hr hlocks dX12_is_129 rfl (congrArg (fun z => Value.int (zb z)) e_)
    · refine lv_aload_n hx hb dX12_is_37 rfl (lv_at hl 1 rfl) ?_
      refine lv_aload_n hx hb dX12_is_38 rfl (lv_at hl 1 rfl) ?_
      refine va_getN (D := G.1) (ci := 5) (v := .int ulit) (C := RX5) (T := TX5) (N := 8) hx hb hts in_X5 hown hK.1 hP 1 rfl rfl 4 (Nat.le_of_ble_eq_true rfl) ((hK.2.1.1 _ (List.mem_of_getElem? (i := 71) rfl)).use rfl) (fun _ h => h) rfl dX12_is_39 ?_
      refine zr_obV ⟨hx, hb, hml, hown, hts⟩ (mt_hf_next l G uA tA uA_bo uA_st uA_se ulit umayor unight uoil uborn ustays useen tA_be tA_le tA_mo tA_rn tA_cn tA_bo tA_st Wd R thouses talways tnever nr nc tring tbeside tleast tmost trnames ulit hT hmy) (cwV 1 hts (lw_V q1426 q1080 q1081 q142 q1082) rfl rfl rfl hd_X5_next ⟨(Nat.le_of_ble_eq_true rfl), (Nat.le_of_ble_eq_true rfl)⟩) (zP_sub hP (ws' := ((hW G uA tA uA_bo uA_st uA_se ulit umayor unight uoil uborn ustays useen) ++ (tW G tA tA_be tA_le tA_mo tA_rn tA_cn tA_bo tA_st (nI Wd) (nI R) thouses talways tnever (nI nr) (nI nc) tring tbeside tleast tmost trnames))) [1, 2, 3, 4, 5, 6, 7, 8, 9] rfl) hK hE 0 5 rfl rfl rfl hl.1 rfl (Nat.le_of_ble_eq_true rfl) dX12_is_42 ⟨Nat.le_refl _, Nat.le_refl _⟩ ?_
      refine lv_aload_n hx hb dX12_is_45 rfl (lv_at hl 1 rfl) ?_
      refine va_getN (D := G.1) (ci := 5) (v := .int ulit) (C := RX5) (T := TX5) (N := 8) hx hb hts in_X5 hown hK.1 hP 1 rfl rfl 4 (Nat.le_of_ble_eq_true rfl) ((hK.2.1.1 _ (List.mem_of_getElem? (i := 71) rfl)).use rfl) (fun _ h => h) rfl dX12_is_46 ?_
      refine lv_icmp_ne (tgt := 56) hx hb dX12_is_49 (by decide) (fun c_8 => ?_) (fun c_8 => ?_)
      · refine lv_iconst (v := 0) hx hb dX12_is_56 (by decide) ?_
        have e_ : yf_is w_what w_num w_sign ulit umayor uborn ustays Wd R thouses talways tnever tbeside = false := by rw [yf_is, if_neg c_1, if_pos c_2, if_neg c_8]
        exact zr_oz hx hb hr hlocks dX12_is_57 rfl (congrArg (fun z => Value.int (zb z)) e_)
      · refine lv_iconst (v := 1) hx hb dX12_is_52 (by decide) ?_
        refine lv_goto (tgt := 57) hx hb dX12_is_53 (by decide) ?_
        have e_ : yf_is w_what w_num w_sign ulit umayor uborn ustays Wd R thouses talways tnever tbeside = true := by rw [yf_is, if_neg c_1, if_pos c_2, if_pos c_8]
        exact zr_oz hx hb hr hlocks dX12_is_57 rfl (congrArg (fun z => Value.int (zb z)) e_)
  · refine lv_aload_n hx hb dX12_is_8 rfl (lv_at hl 1 rfl) ?_
    refine va_getN (D := G.1) (ci := 5) (v := .int ulit) (C := RX5) (T := TX5) (N := 8) hx hb hts in_X5 hown hK.1 hP 1 rfl rfl 4 (Nat.le_of_ble_eq_true rfl) ((hK.2.1.1 _ (List.mem_of_getElem? (i := 71) rfl)).use rfl) (fun _ h => h) rfl dX12_is_9 ?_
    refine lv_aload_n hx hb dX12_is_12 rfl (lv_at hl 0 rfl) ?_
    refine va_get (D := G.1) (ci := 10) (v := .int w_num) (C := RX12) (T := TX12) (N := 5) hx hb hts in_X12 hown hK.1 hP 0 rfl rfl 3 (Nat.le_of_ble_eq_true rfl) (hts _ q922) (fun _ h => h) rfl dX12_is_13 ?_
    refine lv_ishr hx hb dX12_is_16 ?_
    refine lv_iconst (v := 1) hx hb dX12_is_17 (by decide) ?_
    refine lv_iand hx hb dX12_is_18 ?_
    refine lv_iconst (v := 1) hx hb dX12_is_19 (by decide) ?_
    refine lv_icmp_ne (tgt := 27) hx hb dX12_is_20 (by decide) (fun c_9 => ?_) (fun c_9 => ?_)
    · refine lv_iconst (v := 0) hx hb dX12_is_27 (by decide) ?_
      have e_ : yf_is w_what w_num w_sign ulit umayor uborn ustays Wd R thouses talways tnever tbeside = false := by rw [yf_is, if_pos c_1, if_neg c_9]
      exact zr_oz hx hb hr hlocks dX12_is_28 rfl (congrArg (fun z => Value.int (zb z)) e_)
    · refine lv_iconst (v := 1) hx hb dX12_is_23 (by decide) ?_
      refine lv_goto (tgt := 28) hx hb dX12_is_24 (by decide) ?_
      have e_ : yf_is w_what w_num w_sign ulit umayor uborn ustays Wd R thouses talways tnever tbeside = true := by rw [yf_is, if_pos c_1, if_pos c_9]
      exact zr_oz hx hb hr hlocks dX12_is_28 rfl (congrArg (fun z => Value.int (zb z)) e_)
