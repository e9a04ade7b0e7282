def xZ_ (G : zG) (xA : Nat) (xa_trays : Nat) (xa_tape : Nat) (x_taped : Int32) (x_faultKind : Int32) (x_faultAt : Int32) (xa_bad : Nat) (xa_refused : Nat) (x_status : Int32) (x_above : Int64) (x_under : Int64) (nA : Nat) (xa_marks : Nat) (x_markMany : Int32) (xa_pictures : Nat) (x_lead : Int32) (x_round : Int32) (xa_ways : Nat) (x_bestSet : Int32) (x_bestMany : Int32) (x_left : Int32) (xa_aside : Nat) (xa_last : Nat) (x_hasLived : Bool) (uA : Nat) : va_W := [(xA, .inr (0, [.ref xa_trays, .ref xa_tape, .int x_taped, .int x_faultKind, .int x_faultAt, .ref xa_bad, .ref xa_refused, .int x_status, .long x_above, .long x_under, .ref nA, .ref xa_marks, .int x_markMany, .ref xa_pictures, .int x_lead, .int x_round, .ref xa_ways, .int x_bestSet, .int x_bestMany, .int x_left, .ref xa_aside, .ref xa_last, .int (zb x_hasLived)])), (nA, .inr (4, [.ref uA, .null]))]
def xf_liveBad  : Int32 × Int32 :=
  ((-1), 1)
set_option maxHeartbeats 4000000 in
set_option maxRecDepth 100000 in
theorem mt_xf_liveBad (l : Launch) (G : zG) (xA : Nat) (xa_trays : Nat) (xa_tape : Nat) (x_taped : Int32) (x_faultKind : Int32) (x_faultAt : Int32) (xa_bad : Nat) (xa_refused : Nat) (x_status : Int32) (x_above : Int64) (x_under : Int64) (nA : Nat) (xa_marks : Nat) (x_markMany : Int32) (xa_pictures : Nat) (x_lead : Int32) (x_round : Int32) (xa_ways : Nat) (x_bestSet : Int32) (x_bestMany : Int32) (x_left : Int32) (xa_aside : Nat) (xa_last : Nat) (x_hasLived : Bool) (uA : Nat) (n_year : Option Nat) (seed : Int32) (hbad : ¬ xf_isIn seed.toInt64 0 9999 = true) (sz : Nat) : Met l yX0_live (ws_ yX0_live cX0_live 3 (some .int)) (zR 2 0 0) (zPm G sz [.ref xA, .int seed] (xA_ G xA xa_trays xa_tape x_taped x_faultKind x_faultAt xa_bad xa_refused x_status x_above x_under nA xa_marks x_markMany xa_pictures x_lead x_round xa_ways x_bestSet x_bestMany x_left xa_aside xa_last x_hasLived uA n_year)) (zQm G (True) (some (.int ((xf_liveBad).1))) (xA_ G xA xa_trays xa_tape x_taped x_faultKind x_faultAt xa_bad xa_refused ((xf_liveBad).2) x_above x_under nA xa_marks x_markMany xa_pictures x_lead x_round xa_ways x_bestSet x_bestMany x_left xa_aside xa_last x_hasLived uA n_year) (va_A (xA_ G xA xa_trays xa_tape x_taped x_faultKind x_faultAt xa_bad xa_refused x_status x_above x_under nA xa_marks x_markMany xa_pictures x_lead x_round xa_ways x_bestSet x_bestMany x_left xa_aside xa_last x_hasLived uA n_year) sz)) 0 0 (va_A (xA_ G xA xa_trays xa_tape x_taped x_faultKind x_faultAt xa_bad xa_refused x_status x_above x_under nA xa_marks x_markMany xa_pictures x_lead x_round xa_ways x_bestSet x_bestMany x_left xa_aside xa_last x_hasLived uA n_year) sz) := by
  refine zr_entM (by decide) (Nat.le_of_ble_eq_true rfl) ?_
  intro p e s m below meth c ⟨hx, hb, hr, hml, hown, hts, hlocks, hnm⟩ ls hl hP hK A hE hA hD hS
  have hown : s.vm.findClass RX0 = some m.cls := hown
  have hl : lv_has ls 3 [(0, .ref xA), (1, .int seed)] := hl
  obtain ⟨H, hH⟩ : ∃ H, H = s.heap := ⟨_, rfl⟩
  obtain ⟨locs, hlo⟩ : ∃ L : List Loc, L = [] := ⟨_, rfl⟩
  rw [← hH] at hP
  have hS : va_S A s.heap H locs := by rw [hH, hlo]; exact va_S.rf
  have hgo : W p l e (zR 2 0 0) s m ([.ref xA, .int seed] : List Value).toArray below meth c H locs 0 0 (MQ below (zQm G (True) (some (.int ((xf_liveBad).1))) (xA_ G xA xa_trays xa_tape x_taped x_faultKind x_faultAt xa_bad xa_refused ((xf_liveBad).2) x_above x_under nA xa_marks x_markMany xa_pictures x_lead x_round xa_ways x_bestSet x_bestMany x_left xa_aside xa_last x_hasLived uA n_year) A) ([.ref xA, .int seed] : List Value).toArray s 0 0 A) (F0 m 0 ls []) := ?_
  · rw [hH, hlo] at hgo; exact hgo
  clear hH hlo
  refine lv_aload_n hx hb dX0_live_0 rfl (lv_at hl 0 rfl) ?_
  refine lv_iload_n hx hb dX0_live_1 rfl (lv_at hl 1 rfl) ?_
  refine lv_i2l hx hb dX0_live_2 rfl ?_
  refine lv_lconst (v := 0) hx hb dX0_live_3 rfl ?_
  refine lv_ldc2 (v := 9999) hx hb hown (hts _ q1143) dX0_live_4 ?_
  refine zr_puS ⟨hx, hb, hml, hown, hts⟩ (mt_xf_isIn l seed.toInt64 0 9999) (va_cwS 3 hts (lw_S q969 q970 q135 q971) rfl rfl rfl hd_X0_isIn.2 ⟨(Nat.le_of_ble_eq_true rfl), (Nat.le_of_ble_eq_true rfl)⟩) rfl hl.1 rfl (Nat.le_of_ble_eq_true rfl) dX0_live_7 ⟨Nat.le_refl _, Nat.le_refl _⟩ ?_
  refine zr_neB (xf_isIn seed.toInt64 0 9999) (tgt := 17) hx hb dX0_live_10 (by decide) (fun z => absurd z hbad) (fun _ => ?_)
  refine lv_iconst (v := 1) hx hb dX0_live_13 (by decide) ?_
  refine lv_goto (tgt := 33) hx hb dX0_live_14 (by decide) ?_
  refine va_put (D := G.1) (ci := 0) (v := .int 1) (ty := .int) (C := RX0) (T := TX0) (N := 23) hx hb hts in_X0 tyX0 tyX0_ok nmX0 hown hK.1 hP hD hS 0 rfl rfl 7 (Nat.le_of_ble_eq_true rfl) (hts _ q432) (fun _ h => h) rfl (tyX0_ok 7 (Nat.le_of_ble_eq_true rfl)) rfl rfl (Nat.le_of_ble_eq_true rfl) dX0_live_33 (fun H locs hP hD hS => ?_)
  have hP : va_P G.1 zcl (xA_ G xA xa_trays xa_tape x_taped x_faultKind x_faultAt xa_bad xa_refused 1 x_above x_under nA xa_marks x_markMany xa_pictures x_lead x_round xa_ways x_bestSet x_bestMany x_left xa_aside xa_last x_hasLived uA n_year) H := hP
  have hD : va_D A (xA_ G xA xa_trays xa_tape x_taped x_faultKind x_faultAt xa_bad xa_refused 1 x_above x_under nA xa_marks x_markMany xa_pictures x_lead x_round xa_ways x_bestSet x_bestMany x_left xa_aside xa_last x_hasLived uA n_year) := hD
  refine lv_aload_n hx hb dX0_live_36 rfl (lv_at hl 0 rfl) ?_
  refine va_get (D := G.1) (ci := 0) (v := .int 1) (C := RX0) (T := TX0) (N := 23) hx hb hts in_X0 hown hK.1 hP 0 rfl rfl 7 (Nat.le_of_ble_eq_true rfl) (hts _ q432) (fun _ h => h) rfl dX0_live_37 ?_
  refine lv_if_le (tgt := 45) hx hb dX0_live_40 (by decide) (fun z => absurd z (by decide)) (fun _ => ?_)
  refine lv_iconst (v := (-1)) hx hb dX0_live_43 (by decide) ?_
  have e_ : xf_liveBad = ((-1), 1) := by rw [xf_liveBad]
  exact zr_mi hx hb hr hlocks hP hD hS dX0_live_44 (by rw [e_])  (by rw [e_]) trivial
def xf_liveNone  : Int32 × Int32 :=
  ((-1), 6)
set_option maxHeartbeats 4000000 in
set_option maxRecDepth 100000 in
theorem mt_xf_liveNone (l : Launch) (G : zG) (xA : Nat) (xa_trays : Nat) (xa_tape : Nat) (x_taped : Int32) (x_faultKind : Int32) (x_faultAt : Int32) (xa_bad : Nat) (xa_refused : Nat) (x_status : Int32) (x_above : Int64) (x_under : Int64) (nA : Nat) (xa_marks : Nat) (x_markMany : Int32) (xa_pictures : Nat) (x_lead : Int32) (x_round : Int32) (xa_ways : Nat) (x_bestSet : Int32) (x_bestMany : Int32) (x_left : Int32) (xa_aside : Nat) (xa_last : Nat) (x_hasLived : Bool) (uA : Nat) (seed : Int32) (hin : xf_isIn seed.toInt64 0 9999 = true) (sz : Nat) : Met l yX0_live (ws_ yX0_live cX0_live 3 (some .int)) (zR 2 0 0) (zPm G sz [.ref xA, .int seed] (xZ_ G xA xa_trays xa_tape x_taped x_faultKind x_faultAt xa_bad xa_refused x_status x_above x_under nA xa_marks x_markMany xa_pictures x_lead x_round xa_ways x_bestSet x_bestMany x_left xa_aside xa_last x_hasLived uA)) (zQm G (True) (some (.int ((xf_liveNone).1))) (xZ_ G xA xa_trays xa_tape x_taped x_faultKind x_faultAt xa_bad xa_refused ((xf_liveNone).2) x_above x_under nA xa_marks x_markMany xa_pictures x_lead x_round xa_ways x_bestSet x_bestMany x_left xa_aside xa_last x_hasLived uA) (va_A (xZ_ G xA xa_trays xa_tape x_taped x_faultKind x_faultAt xa_bad xa_refused x_status x_above x_under nA xa_marks x_markMany xa_pictures x_lead x_round xa_ways x_bestSet x_bestMany x_left xa_aside xa_last x_hasLived uA) sz)) 0 0 (va_A (xZ_ G xA xa_trays xa_tape x_taped x_faultKind x_faultAt xa_bad xa_refused x_status x_above x_under nA xa_marks x_markMany xa_pictures x_lead x_round xa_ways x_bestSet x_bestMany x_left xa_aside xa_last x_hasLived uA) sz) := by
  refine zr_entM (by decide) (Nat.le_of_ble_eq_true rfl) ?_
  intro p e s m below meth c ⟨hx, hb, hr, hml, hown, hts, hlocks, hnm⟩ ls hl hP hK A hE hA hD hS
  have hown : s.vm.findClass RX0 = some m.cls := hown
  have hl : lv_has ls 3 [(0, .ref xA), (1, .int seed)] := hl
  obtain ⟨H, hH⟩ : ∃ H, H = s.heap := ⟨_, rfl⟩
  obtain ⟨locs, hlo⟩ : ∃ L : List Loc, L = [] := ⟨_, rfl⟩
  rw [← hH] at hP
  have hS : va_S A s.heap H locs := by rw [hH, hlo]; exact va_S.rf
  have hgo : W p l e (zR 2 0 0) s m ([.ref xA, .int seed] : List Value).toArray below meth c H locs 0 0 (MQ below (zQm G (True) (some (.int ((xf_liveNone).1))) (xZ_ G xA xa_trays xa_tape x_taped x_faultKind x_faultAt xa_bad xa_refused ((xf_liveNone).2) x_above x_under nA xa_marks x_markMany xa_pictures x_lead x_round xa_ways x_bestSet x_bestMany x_left xa_aside xa_last x_hasLived uA) A) ([.ref xA, .int seed] : List Value).toArray s 0 0 A) (F0 m 0 ls []) := ?_
  · rw [hH, hlo] at hgo; exact hgo
  clear hH hlo
  refine lv_aload_n hx hb dX0_live_0 rfl (lv_at hl 0 rfl) ?_
  refine lv_iload_n hx hb dX0_live_1 rfl (lv_at hl 1 rfl) ?_
  refine lv_i2l hx hb dX0_live_2 rfl ?_
  refine lv_lconst (v := 0) hx hb dX0_live_3 rfl ?_
  refine lv_ldc2 (v := 9999) hx hb hown (hts _ q1143) dX0_live_4 ?_
  refine zr_puS ⟨hx, hb, hml, hown, hts⟩ (mt_xf_isIn l seed.toInt64 0 9999) (va_cwS 3 hts (lw_S q969 q970 q135 q971) rfl rfl rfl hd_X0_isIn.2 ⟨(Nat.le_of_ble_eq_true rfl), (Nat.le_of_ble_eq_true rfl)⟩) rfl hl.1 rfl (Nat.le_of_ble_eq_true rfl) dX0_live_7 ⟨Nat.le_refl _, Nat.le_refl _⟩ ?_
  refine zr_neB (xf_isIn seed.toInt64 0 9999) (tgt := 17) hx hb dX0_live_10 (by decide) (fun _ => ?_) (fun z => absurd hin z)
  refine lv_aload_n hx hb dX0_live_17 rfl (lv_at hl 0 rfl) ?_
  refine va_get (D := G.1) (ci := 0) (v := .ref nA) (C := RX0) (T := TX0) (N := 23) hx hb hts in_X0 hown hK.1 hP 0 rfl rfl 10 (Nat.le_of_ble_eq_true rfl) (hts _ q435) (fun _ h => h) rfl dX0_live_18 ?_
  refine va_getN (D := G.1) (ci := 4) (v := .null) (C := RX4) (T := TX4) (N := 2) hx hb hts in_X4 hown hK.1 hP 1 rfl rfl 1 (Nat.le_of_ble_eq_true rfl) ((hK.2.1.1 _ (List.mem_of_getElem? (i := 11) rfl)).use rfl) (fun _ h => h) rfl dX0_live_21 ?_
  refine lv_ifnonnullN hx hb dX0_live_24 ?_
  refine lv_bipush (v := 6) hx hb dX0_live_27 (by decide) ?_
  refine lv_goto (tgt := 33) hx hb dX0_live_29 (by decide) ?_
  refine va_put (D := G.1) (ci := 0) (v := .int 6) (ty := .int) (C := RX0) (T := TX0) (N := 23) hx hb hts in_X0 tyX0 tyX0_ok nmX0 hown hK.1 hP hD hS 0 rfl rfl 7 (Nat.le_of_ble_eq_true rfl) (hts _ q432) (fun _ h => h) rfl (tyX0_ok 7 (Nat.le_of_ble_eq_true rfl)) rfl rfl (Nat.le_of_ble_eq_true rfl) dX0_live_33 (fun H locs hP hD hS => ?_)
  have hP : va_P G.1 zcl (xZ_ G xA xa_trays xa_tape x_taped x_faultKind x_faultAt xa_bad xa_refused 6 x_above x_under nA xa_marks x_markMany xa_pictures x_lead x_round xa_ways x_bestSet x_bestMany x_left xa_aside xa_last x_hasLived uA) H := hP
  have hD : va_D A (xZ_ G xA xa_trays xa_tape x_taped x_faultKind x_faultAt xa_bad xa_refused 6 x_above x_under nA xa_marks x_markMany xa_pictures x_lead x_round xa_ways x_bestSet x_bestMany x_left xa_aside xa_last x_hasLived uA) := hD
  refine lv_aload_n hx hb dX0_live_36 rfl (lv_at hl 0 rfl) ?_
  refine va_get (D := G.1) (ci := 0) (v := .int 6) (C := RX0) (T := TX0) (N := 23) hx hb hts in_X0 hown hK.1 hP 0 rfl rfl 7 (Nat.le_of_ble_eq_true rfl) (hts _ q432) (fun _ h => h) rfl dX0_live_37 ?_
  refine lv_if_le (tgt := 45) hx hb dX0_live_40 (by decide) (fun z => absurd z (by decide)) (fun _ => ?_)
  refine lv_iconst (v := (-1)) hx hb dX0_live_43 (by decide) ?_
  have e_ : xf_liveNone = ((-1), 6) := by rw [xf_liveNone]
  exact zr_mi hx hb hr hlocks hP hD hS dX0_live_44 (by rw [e_])  (by rw [e_]) trivial
def xf_meanBad1  : Bool × Int32 :=
  (false, 1)
set_option maxHeartbeats 4000000 in
set_option maxRecDepth 100000 in
theorem mt_xf_meanBad1 (l : Launch) (G : zG) (xA : Nat) (xa_trays : Nat) (xa_tape : Nat) (x_taped : Int32) (x_faultKind : Int32) (x_faultAt : Int32) (xa_bad : Nat) (xa_refused : Nat) (x_status : Int32) (x_above : Int64) (x_under : Int64) (nA : Nat) (xa_marks : Nat) (x_markMany : Int32) (xa_pictures : Nat) (x_lead : Int32) (x_round : Int32) (xa_ways : Nat) (x_bestSet : Int32) (x_bestMany : Int32) (x_left : Int32) (xa_aside : Nat) (xa_last : Nat) (x_hasLived : Bool) (uA : Nat) (n_year : Option Nat) (seed : Int32) (many : Int32) (hbad : ¬ xf_isIn many.toInt64 1 20 = true) (sz : Nat) : Met l yX0_mean (ws_ yX0_mean cX0_mean 5 (some .boolean)) (zR 2 0 0) (zPm G sz [.ref xA, .int seed, .int many] (xA_ G xA xa_trays xa_tape x_taped x_faultKind x_faultAt xa_bad xa_refused x_status x_above x_under nA xa_marks x_markMany xa_pictures x_lead x_round xa_ways x_bestSet x_bestMany x_left xa_aside xa_last x_hasLived uA n_year)) (zQm G (True) (some (.int (zb ((xf_meanBad1).1)))) (xA_ G xA xa_trays xa_tape x_taped x_faultKind x_faultAt xa_bad xa_refused ((xf_meanBad1).2) x_above x_under nA xa_marks x_markMany xa_pictures x_lead x_round xa_ways x_bestSet x_bestMany x_left xa_aside xa_last x_hasLived uA n_year) (va_A (xA_ G xA xa_trays xa_tape x_taped x_faultKind x_faultAt xa_bad xa_refused x_status x_above x_under nA xa_marks x_markMany xa_pictures x_lead x_round xa_ways x_bestSet x_bestMany x_left xa_aside xa_last x_hasLived uA n_year) sz)) 0 0 (va_A (xA_ G xA xa_trays xa_tape x_taped x_faultKind x_faultAt xa_bad xa_refused x_status x_above x_under nA xa_marks x_markMany xa_pictures x_lead x_round xa_ways x_bestSet x_bestMany x_left xa_aside xa_last x_hasLived uA n_year) sz) := by
  refine zr_entM (by decide) (Nat.le_of_ble_eq_true rfl) ?_
  intro p e s m below meth c ⟨hx, hb, hr, hml, hown, hts, hlocks, hnm⟩ ls hl hP hK A hE hA hD hS
  have hown : s.vm.findClass RX0 = some m.cls := hown
  have hl : lv_has ls 5 [(0, .ref xA), (1, .int seed), (2, .int many)] := hl
  obtain ⟨H, hH⟩ : ∃ H, H = s.heap := ⟨_, rfl⟩
  obtain ⟨locs, hlo⟩ : ∃ L : List Loc, L = [] := ⟨_, rfl⟩
  rw [← hH] at hP
  have hS : va_S A s.heap H locs := by rw [hH, hlo]; exact va_S.rf
  have hgo : W p l e (zR 2 0 0) s m ([.ref xA, .int seed, .int many] : List Value).toArray below meth c H locs 0 0 (MQ below (zQm G (True) (some (.int (zb ((xf_meanBad1).1)))) (xA_ G xA xa_trays xa_tape x_taped x_faultKind x_faultAt xa_bad xa_refused ((xf_meanBad1).2) x_above x_under nA xa_marks x_markMany xa_pictures x_lead x_round xa_ways x_bestSet x_bestMany x_left xa_aside xa_last x_hasLived uA n_year) A) ([.ref xA, .int seed, .int many] : List Value).toArray s 0 0 A) (F0 m 0 ls []) := ?_
  · rw [hH, hlo] at hgo; exact hgo
  clear hH hlo
  refine lv_aload_n hx hb dX0_mean_0 rfl (lv_at hl 0 rfl) ?_
  refine lv_iload_n hx hb dX0_mean_1 rfl (lv_at hl 2 rfl) ?_
  refine lv_i2l hx hb dX0_mean_2 rfl ?_
  refine lv_lconst (v := 1) hx hb dX0_mean_3 rfl ?_
  refine lv_ldc2 (v := 20) hx hb hown (hts _ q1439) dX0_mean_4 ?_
  refine zr_puS ⟨hx, hb, hml, hown, hts⟩ (mt_xf_isIn l many.toInt64 1 20) (va_cwS 3 hts (lw_S q969 q970 q135 q971) rfl rfl rfl hd_X0_isIn.2 ⟨(Nat.le_of_ble_eq_true rfl), (Nat.le_of_ble_eq_true rfl)⟩) rfl hl.1 rfl (Nat.le_of_ble_eq_true rfl) dX0_mean_7 ⟨Nat.le_refl _, Nat.le_refl _⟩ ?_
  refine zr_eqB (xf_isIn many.toInt64 1 20) (tgt := 30) hx hb dX0_mean_10 (by decide) (fun _ => ?_) (fun z => absurd z hbad)
  refine lv_iconst (v := 1) hx hb dX0_mean_30 (by decide) ?_
  refine lv_goto (tgt := 50) hx hb dX0_mean_31 (by decide) ?_
  refine va_put (D := G.1) (ci := 0) (v := .int 1) (ty := .int) (C := RX0) (T := TX0) (N := 23) hx hb hts in_X0 tyX0 tyX0_ok nmX0 hown hK.1 hP hD hS 0 rfl rfl 7 (Nat.le_of_ble_eq_true rfl) (hts _ q432) (fun _ h => h) rfl (tyX0_ok 7 (Nat.le_of_ble_eq_true rfl)) rfl rfl (Nat.le_of_ble_eq_true rfl) dX0_mean_50 (fun H locs hP hD hS => ?_)
  have hP : va_P G.1 zcl (xA_ G xA xa_trays xa_tape x_taped x_faultKind x_faultAt xa_bad xa_refused 1 x_above x_under nA xa_marks x_markMany xa_pictures x_lead x_round xa_ways x_bestSet x_bestMany x_left xa_aside xa_last x_hasLived uA n_year) H := hP
  have hD : va_D A (xA_ G xA xa_trays xa_tape x_taped x_faultKind x_faultAt xa_bad xa_refused 1 x_above x_under nA xa_marks x_markMany xa_pictures x_lead x_round xa_ways x_bestSet x_bestMany x_left xa_aside xa_last x_hasLived uA n_year) := hD
  refine lv_aload_n hx hb dX0_mean_53 rfl (lv_at hl 0 rfl) ?_
  refine va_get (D := G.1) (ci := 0) (v := .int 1) (C := RX0) (T := TX0) (N := 23) hx hb hts in_X0 hown hK.1 hP 0 rfl rfl 7 (Nat.le_of_ble_eq_true rfl) (hts _ q432) (fun _ h => h) rfl dX0_mean_54 ?_
  refine lv_if_le (tgt := 62) hx hb dX0_mean_57 (by decide) (fun z => absurd z (by decide)) (fun _ => ?_)
  refine lv_iconst (v := 0) hx hb dX0_mean_60 (by decide) ?_
  have e_ : xf_meanBad1 = (false, 1) := by rw [xf_meanBad1]
  exact zr_mz hx hb hr hlocks hP hD hS dX0_mean_61 rfl (by rw [e_]; rfl) (by rw [e_]) trivial
def xf_meanBad2  : Bool × Int32 :=
  (false, 1)
set_option maxHeartbeats 4000000 in
set_option maxRecDepth 100000 in
theorem mt_xf_meanBad2 (l : Launch) (G : zG) (xA : Nat) (xa_trays : Nat) (xa_tape : Nat) (x_taped : Int32) (x_faultKind : Int32) (x_faultAt : Int32) (xa_bad : Nat) (xa_refused : Nat) (x_status : Int32) (x_above : Int64) (x_under : Int64) (nA : Nat) (xa_marks : Nat) (x_markMany : Int32) (xa_pictures : Nat) (x_lead : Int32) (x_round : Int32) (xa_ways : Nat) (x_bestSet : Int32) (x_bestMany : Int32) (x_left : Int32) (xa_aside : Nat) (xa_last : Nat) (x_hasLived : Bool) (uA : Nat) (n_year : Option Nat) (seed : Int32) (many : Int32) (hin : xf_isIn many.toInt64 1 20 = true) (hbad : ¬ xf_isIn seed.toInt64 0 ((9999 - many) + 1).toInt64 = true) (sz : Nat) : Met l yX0_mean (ws_ yX0_mean cX0_mean 5 (some .boolean)) (zR 2 0 0) (zPm G sz [.ref xA, .int seed, .int many] (xA_ G xA xa_trays xa_tape x_taped x_faultKind x_faultAt xa_bad xa_refused x_status x_above x_under nA xa_marks x_markMany xa_pictures x_lead x_round xa_ways x_bestSet x_bestMany x_left xa_aside xa_last x_hasLived uA n_year)) (zQm G (True) (some (.int (zb ((xf_meanBad2).1)))) (xA_ G xA xa_trays xa_tape x_taped x_faultKind x_faultAt xa_bad xa_refused ((xf_meanBad2).2) x_above x_under nA xa_marks x_markMany xa_pictures x_lead x_round xa_ways x_bestSet x_bestMany x_left xa_aside xa_last x_hasLived uA n_year) (va_A (xA_ G xA xa_trays xa_tape x_taped x_faultKind x_faultAt xa_bad xa_refused x_status x_above x_under nA xa_marks x_markMany xa_pictures x_lead x_round xa_ways x_bestSet x_bestMany x_left xa_aside xa_last x_hasLived uA n_year) sz)) 0 0 (va_A (xA_ G xA xa_trays xa_tape x_taped x_faultKind x_faultAt xa_bad xa_refused x_status x_above x_under nA xa_marks x_markMany xa_pictures x_lead x_round xa_ways x_bestSet x_bestMany x_left xa_aside xa_last x_hasLived uA n_year) sz) := by
  refine zr_entM (by decide) (Nat.le_of_ble_eq_true rfl) ?_
  intro p e s m below meth c ⟨hx, hb, hr, hml, hown, hts, hlocks, hnm⟩ ls hl hP hK A hE hA hD hS
  have hown : s.vm.findClass RX0 = some m.cls := hown
  have hl : lv_has ls 5 [(0, .ref xA), (1, .int seed), (2, .int many)] := hl
  obtain ⟨H, hH⟩ : ∃ H, H = s.heap := ⟨_, rfl⟩
  obtain ⟨locs, hlo⟩ : ∃ L : List Loc, L = [] := ⟨_, rfl⟩
  rw [← hH] at hP
  have hS : va_S A s.heap H locs := by rw [hH, hlo]; exact va_S.rf
  have hgo : W p l e (zR 2 0 0) s m ([.ref xA, .int seed, .int many] : List Value).toArray below meth c H locs 0 0 (MQ below (zQm G (True) (some (.int (zb ((xf_meanBad2).1)))) (xA_ G xA xa_trays xa_tape x_taped x_faultKind x_faultAt xa_bad xa_refused ((xf_meanBad2).2) x_above x_under nA xa_marks x_markMany xa_pictures x_lead x_round xa_ways x_bestSet x_bestMany x_left xa_aside xa_last x_hasLived uA n_year) A) ([.ref xA, .int seed, .int many] : List Value).toArray s 0 0 A) (F0 m 0 ls []) := ?_
  · rw [hH, hlo] at hgo; exact hgo
  clear hH hlo
  refine lv_aload_n hx hb dX0_mean_0 rfl (lv_at hl 0 rfl) ?_
  refine lv_iload_n hx hb dX0_mean_1 rfl (lv_at hl 2 rfl) ?_
  refine lv_i2l hx hb dX0_mean_2 rfl ?_
  refine lv_lconst (v := 1) hx hb dX0_mean_3 rfl ?_
  refine lv_ldc2 (v := 20) hx hb hown (hts _ q1439) dX0_mean_4 ?_
  refine zr_puS ⟨hx, hb, hml, hown, hts⟩ (mt_xf_isIn l many.toInt64 1 20) (va_cwS 3 hts (lw_S q969 q970 q135 q971) rfl rfl rfl hd_X0_isIn.2 ⟨(Nat.le_of_ble_eq_true rfl), (Nat.le_of_ble_eq_true rfl)⟩) rfl hl.1 rfl (Nat.le_of_ble_eq_true rfl) dX0_mean_7 ⟨Nat.le_refl _, Nat.le_refl _⟩ ?_
  refine zr_eqB (xf_isIn many.toInt64 1 20) (tgt := 30) hx hb dX0_mean_10 (by decide) (fun z => absurd hin z) (fun _ => ?_)
  refine lv_iload_n hx hb dX0_mean_13 rfl (lv_at hl 1 rfl) ?_
  refine lv_i2l hx hb dX0_mean_14 rfl ?_
  refine lv_lconst (v := 0) hx hb dX0_mean_15 rfl ?_
  refine lv_sipush (v := 9999) hx hb dX0_mean_16 (by decide) ?_
  refine lv_iload_n hx hb dX0_mean_19 rfl (lv_at hl 2 rfl) ?_
  refine lv_isub hx hb dX0_mean_20 ?_
  refine lv_iconst (v := 1) hx hb dX0_mean_21 (by decide) ?_
  refine lv_iadd hx hb dX0_mean_22 ?_
  refine lv_i2l hx hb dX0_mean_23 rfl ?_
  refine zr_puS ⟨hx, hb, hml, hown, hts⟩ (mt_xf_isIn l seed.toInt64 0 (((9999 - many) + 1).toInt64)) (va_cwS 3 hts (lw_S q969 q970 q135 q971) rfl rfl rfl hd_X0_isIn.2 ⟨(Nat.le_of_ble_eq_true rfl), (Nat.le_of_ble_eq_true rfl)⟩) rfl hl.1 rfl (Nat.le_of_ble_eq_true rfl) dX0_mean_24 ⟨Nat.le_refl _, Nat.le_refl _⟩ ?_
  refine zr_neB (xf_isIn seed.toInt64 0 (((9999 - many) + 1).toInt64)) (tgt := 34) hx hb dX0_mean_27 (by decide) (fun z => absurd z hbad) (fun _ => ?_)
  refine lv_iconst (v := 1) hx hb dX0_mean_30 (by decide) ?_
  refine lv_goto (tgt := 50) hx hb dX0_mean_31 (by decide) ?_
  refine va_put (D := G.1) (ci := 0) (v := .int 1) (ty := .int) (C := RX0) (T := TX0) (N := 23) hx hb hts in_X0 tyX0 tyX0_ok nmX0 hown hK.1 hP hD hS 0 rfl rfl 7 (Nat.le_of_ble_eq_true rfl) (hts _ q432) (fun _ h => h) rfl (tyX0_ok 7 (Nat.le_of_ble_eq_true rfl)) rfl rfl (Nat.le_of_ble_eq_true rfl) dX0_mean_50 (fun H locs hP hD hS => ?_)
  have hP : va_P G.1 zcl (xA_ G xA xa_trays xa_tape x_taped x_faultKind x_faultAt xa_bad xa_refused 1 x_above x_under nA xa_marks x_markMany xa_pictures x_lead x_round xa_ways x_bestSet x_bestMany x_left xa_aside xa_last x_hasLived uA n_year) H := hP
  have hD : va_D A (xA_ G xA xa_trays xa_tape x_taped x_faultKind x_faultAt xa_bad xa_refused 1 x_above x_under nA xa_marks x_markMany xa_pictures x_lead x_round xa_ways x_bestSet x_bestMany x_left xa_aside xa_last x_hasLived uA n_year) := hD
  refine lv_aload_n hx hb dX0_mean_53 rfl (lv_at hl 0 rfl) ?_
  refine va_get (D := G.1) (ci := 0) (v := .int 1) (C := RX0) (T := TX0) (N := 23) hx hb hts in_X0 hown hK.1 hP 0 rfl rfl 7 (Nat.le_of_ble_eq_true rfl) (hts _ q432) (fun _ h => h) rfl dX0_mean_54 ?_
  refine lv_if_le (tgt := 62) hx hb dX0_mean_57 (by decide) (fun z => absurd z (by decide)) (fun _ => ?_)
  refine lv_iconst (v := 0) hx hb dX0_mean_60 (by decide) ?_
  have e_ : xf_meanBad2 = (false, 1) := by rw [xf_meanBad2]
  exact zr_mz hx hb hr hlocks hP hD hS dX0_mean_61 rfl (by rw [e_]; rfl) (by rw [e_]) trivial
def xf_meanNone  : Bool × Int32 :=
  (false, 6)
set_option maxHeartbeats 4000000 in
set_option maxRecDepth 100000 in
theorem mt_xf_meanNone (l : Launch) (G : zG) (xA : Nat) (xa_trays : Nat) (xa_tape : Nat) (x_taped : Int32) (x_faultKind : Int32) (x_faultAt : Int32) (xa_bad : Nat) (xa_refused : Nat) (x_status : Int32) (x_above : Int64) (x_under : Int64) (nA : Nat) (xa_marks : Nat) (x_markMany : Int32) (xa_pictures : Nat) (x_lead : Int32) (x_round : Int32) (xa_ways : Nat) (x_bestSet : Int32) (x_bestMany : Int32) (x_left : Int32) (xa_aside : Nat) (xa_last : Nat) (x_hasLived : Bool) (uA : Nat) (seed : Int32) (many : Int32) (hin : xf_isIn many.toInt64 1 20 = true) (hin2 : xf_isIn seed.toInt64 0 ((9999 - many) + 1).toInt64 = true) (sz : Nat) : Met l yX0_mean (ws_ yX0_mean cX0_mean 5 (some .boolean)) (zR 2 0 0) (zPm G sz [.ref xA, .int seed, .int many] (xZ_ G xA xa_trays xa_tape x_taped x_faultKind x_faultAt xa_bad xa_refused x_status x_above x_under nA xa_marks x_markMany xa_pictures x_lead x_round xa_ways x_bestSet x_bestMany x_left xa_aside xa_last x_hasLived uA)) (zQm G (True) (some (.int (zb ((xf_meanNone).1)))) (xZ_ G xA xa_trays xa_tape x_taped x_faultKind x_faultAt xa_bad xa_refused ((xf_meanNone).2) x_above x_under nA xa_marks x_markMany xa_pictures x_lead x_round xa_ways x_bestSet x_bestMany x_left xa_aside xa_last x_hasLived uA) (va_A (xZ_ G xA xa_trays xa_tape x_taped x_faultKind x_faultAt xa_bad xa_refused x_status x_above x_under nA xa_marks x_markMany xa_pictures x_lead x_round xa_ways x_bestSet x_bestMany x_left xa_aside xa_last x_hasLived uA) sz)) 0 0 (va_A (xZ_ G xA xa_trays xa_tape x_taped x_faultKind x_faultAt xa_bad xa_refused x_status x_above x_under nA xa_marks x_markMany xa_pictures x_lead x_round xa_ways x_bestSet x_bestMany x_left xa_aside xa_last x_hasLived uA) sz) := by
  refine zr_entM (by decide) (Nat.le_of_ble_eq_true rfl) ?_
  intro p e s m below meth c ⟨hx, hb, hr, hml, hown, hts, hlocks, hnm⟩ ls hl hP hK A hE hA hD hS
  have hown : s.vm.findClass RX0 = some m.cls := hown
  have hl : lv_has ls 5 [(0, .ref xA), (1, .int seed), (2, .int many)] := hl
  obtain ⟨H, hH⟩ : ∃ H, H = s.heap := ⟨_, rfl⟩
  obtain ⟨locs, hlo⟩ : ∃ L : List Loc, L = [] := ⟨_, rfl⟩
  rw [← hH] at hP
  have hS : va_S A s.heap H locs := by rw [hH, hlo]; exact va_S.rf
  have hgo : W p l e (zR 2 0 0) s m ([.ref xA, .int seed, .int many] : List Value).toArray below meth c H locs 0 0 (MQ below (zQm G (True) (some (.int (zb ((xf_meanNone).1)))) (xZ_ G xA xa_trays xa_tape x_taped x_faultKind x_faultAt xa_bad xa_refused ((xf_meanNone).2) x_above x_under nA xa_marks x_markMany xa_pictures x_lead x_round xa_ways x_bestSet x_bestMany x_left xa_aside xa_last x_hasLived uA) A) ([.ref xA, .int seed, .int many] : List Value).toArray s 0 0 A) (F0 m 0 ls []) := ?_
  · rw [hH, hlo] at hgo; exact hgo
  clear hH hlo
  refine lv_aload_n hx hb dX0_mean_0 rfl (lv_at hl 0 rfl) ?_
  refine lv_iload_n hx hb dX0_mean_1 rfl (lv_at hl 2 rfl) ?_
  refine lv_i2l hx hb dX0_mean_2 rfl ?_
  refine lv_lconst (v := 1) hx hb dX0_mean_3 rfl ?_
  refine lv_ldc2 (v := 20) hx hb hown (hts _ q1439) dX0_mean_4 ?_
  refine zr_puS ⟨hx, hb, hml, hown, hts⟩ (mt_xf_isIn l many.toInt64 1 20) (va_cwS 3 hts (lw_S q969 q970 q135 q971) rfl rfl rfl hd_X0_isIn.2 ⟨(Nat.le_of_ble_eq_true rfl), (Nat.le_of_ble_eq_true rfl)⟩) rfl hl.1 rfl (Nat.le_of_ble_eq_true rfl) dX0_mean_7 ⟨Nat.le_refl _, Nat.le_refl _⟩ ?_
  refine zr_eqB (xf_isIn many.toInt64 1 20) (tgt := 30) hx hb dX0_mean_10 (by decide) (fun z => absurd hin z) (fun _ => ?_)
  refine lv_iload_n hx hb dX0_mean_13 rfl (lv_at hl 1 rfl) ?_
  refine lv_i2l hx hb dX0_mean_14 rfl ?_
  refine lv_lconst (v := 0) hx hb dX0_mean_15 rfl ?_
  refine lv_sipush (v := 9999) hx hb dX0_mean_16 (by decide) ?_
  refine lv_iload_n hx hb dX0_mean_19 rfl (lv_at hl 2 rfl) ?_
  refine lv_isub hx hb dX0_mean_20 ?_
  refine lv_iconst (v := 1) hx hb dX0_mean_21 (by decide) ?_
  refine lv_iadd hx hb dX0_mean_22 ?_
  refine lv_i2l hx hb dX0_mean_23 rfl ?_
  refine zr_puS ⟨hx, hb, hml, hown, hts⟩ (mt_xf_isIn l seed.toInt64 0 (((9999 - many) + 1).toInt64)) (va_cwS 3 hts (lw_S q969 q970 q135 q971) rfl rfl rfl hd_X0_isIn.2 ⟨(Nat.le_of_ble_eq_true rfl), (Nat.le_of_ble_eq_true rfl)⟩) rfl hl.1 rfl (Nat.le_of_ble_eq_true rfl) dX0_mean_24 ⟨Nat.le_refl _, Nat.le_refl _⟩ ?_
  refine zr_neB (xf_isIn seed.toInt64 0 (((9999 - many) + 1).toInt64)) (tgt := 34) hx hb dX0_mean_27 (by decide) (fun _ => ?_) (fun z => absurd hin2 z)
  refine lv_aload_n hx hb dX0_mean_34 rfl (lv_at hl 0 rfl) ?_
  refine va_get (D := G.1) (ci := 0) (v := .ref nA) (C := RX0) (T := TX0) (N := 23) hx hb hts in_X0 hown hK.1 hP 0 rfl rfl 10 (Nat.le_of_ble_eq_true rfl) (hts _ q435) (fun _ h => h) rfl dX0_mean_35 ?_
  refine va_getN (D := G.1) (ci := 4) (v := .null) (C := RX4) (T := TX4) (N := 2) hx hb hts in_X4 hown hK.1 hP 1 rfl rfl 1 (Nat.le_of_ble_eq_true rfl) ((hK.2.1.1 _ (List.mem_of_getElem? (i := 11) rfl)).use rfl) (fun _ h => h) rfl dX0_mean_38 ?_
  refine lv_ifnonnullN hx hb dX0_mean_41 ?_
  refine lv_bipush (v := 6) hx hb dX0_mean_44 (by decide) ?_
  refine lv_goto (tgt := 50) hx hb dX0_mean_46 (by decide) ?_
  refine va_put (D := G.1) (ci := 0) (v := .int 6) (ty := .int) (C := RX0) (T := TX0) (N := 23) hx hb hts in_X0 tyX0 tyX0_ok nmX0 hown hK.1 hP hD hS 0 rfl rfl 7 (Nat.le_of_ble_eq_true rfl) (hts _ q432) (fun _ h => h) rfl (tyX0_ok 7 (Nat.le_of_ble_eq_true rfl)) rfl rfl (Nat.le_of_ble_eq_true rfl) dX0_mean_50 (fun H locs hP hD hS => ?_)
  have hP : va_P G.1 zcl (xZ_ G xA xa_trays xa_tape x_taped x_faultKind x_faultAt xa_bad xa_refused 6 x_above x_under nA xa_marks x_markMany xa_pictures x_lead x_round xa_ways x_bestSet x_bestMany x_left xa_aside xa_last x_hasLived uA) H := hP
  have hD : va_D A (xZ_ G xA xa_trays xa_tape x_taped x_faultKind x_faultAt xa_bad xa_refused 6 x_above x_under nA xa_marks x_markMany xa_pictures x_lead x_round xa_ways x_bestSet x_bestMany x_left xa_aside xa_last x_hasLived uA) := hD
  refine lv_aload_n hx hb dX0_mean_53 rfl (lv_at hl 0 rfl) ?_
  refine va_get (D := G.1) (ci := 0) (v := .int 6) (C := RX0) (T := TX0) (N := 23) hx hb hts in_X0 hown hK.1 hP 0 rfl rfl 7 (Nat.le_of_ble_eq_true rfl) (hts _ q432) (fun _ h => h) rfl dX0_mean_54 ?_
  refine lv_if_le (tgt := 62) hx hb dX0_mean_57 (by decide) (fun z => absurd z (by decide)) (fun _ => ?_)
  refine lv_iconst (v := 0) hx hb dX0_mean_60 (by decide) ?_
  have e_ : xf_meanNone = (false, 6) := by rw [xf_meanNone]
  exact zr_mz hx hb hr hlocks hP hD hS dX0_mean_61 rfl (by rw [e_]; rfl) (by rw [e_]) trivial
