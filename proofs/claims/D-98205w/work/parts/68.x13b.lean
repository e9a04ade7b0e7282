theorem hd_X14_init : yX14_init.cls = RX14 ∧ yX14_init.cls ≠ "java/lang/invoke/MethodHandle" ∧ yX14_init.cls ≠ "java/lang/invoke/VarHandle" ∧ (parseMethodDescriptor yX14_init.desc).map (fun d => d.parameters.length) = some 2 := by decide +kernel
set_option maxHeartbeats 4000000 in
set_option maxRecDepth 100000 in
theorem mt_cf_Living (l : Launch) (G : zG) (oA : Nat) (hillA : Nat) (seed : Int32) (sz : Nat) : Met l yX14_init (ws_ yX14_init cX14_init 3 none) (zR 2 0 0) (zPm G sz [.ref oA, .ref hillA, .int seed] [(oA, .inr (12, [.null, .int 0, .int 0, .int 0, .int 0, .int 0, .int 0, .int (zb false), .int (zb false)]))]) (zQe G (fun (u : Nat → Nat) => True) (fun (u : Nat → Nat) => none) (fun (u : Nat → Nat) => [(oA, .inr (12, [.ref hillA, .int seed, .int 0, .int 0, .int 0, .int 0, .int 0, .int (zb false), .int (zb false)]))]) (va_A [(oA, .inr (12, [.null, .int 0, .int 0, .int 0, .int 0, .int 0, .int 0, .int (zb false), .int (zb false)]))] sz)) 0 0 (va_A [(oA, .inr (12, [.null, .int 0, .int 0, .int 0, .int 0, .int 0, .int 0, .int (zb false), .int (zb false)]))] sz) := by
  refine zr_entW (by decide) (Nat.le_of_ble_eq_true rfl) ?_
  intro p e s m below meth c ⟨hx, hb, hr, hml, hown, hts, hlocks, hnm⟩ ls hl hP hK A hE hA hD hS
  have hown : s.vm.findClass RX14 = some m.cls := hown
  have hl : lv_has ls 3 [(0, .ref oA), (1, .ref hillA), (2, .int seed)] := hl
  obtain ⟨H, hH⟩ : ∃ H, H = s.heap := ⟨_, rfl⟩
  obtain ⟨locs, hlo⟩ : ∃ L : List Loc, L = [] := ⟨_, rfl⟩
  rw [← hH] at hP
  have hS : va_S A s.heap H locs := by rw [hH, hlo]; exact va_S.rf
  have hgo : W p l e (zR 2 0 0) s m ([.ref oA, .ref hillA, .int seed] : List Value).toArray below meth c H locs 0 0 (MQ below (zQe G (fun (u : Nat → Nat) => True) (fun (u : Nat → Nat) => none) (fun (u : Nat → Nat) => [(oA, .inr (12, [.ref hillA, .int seed, .int 0, .int 0, .int 0, .int 0, .int 0, .int (zb false), .int (zb false)]))]) A) ([.ref oA, .ref hillA, .int seed] : List Value).toArray s 0 0 A) (F0 m 0 ls []) := ?_
  · rw [hH, hlo] at hgo; exact hgo
  clear hH hlo
  refine lv_aload_n hx hb dX14_init_0 rfl (lv_at hl 0 rfl) ?_
  refine W.objInit hx hb hown (hts _ q1334) (hts _ q170) (hts _ q171) rfl (by rw [hml]; exact hl.1) rfl dX14_init_1 (Nat.le_of_ble_eq_true rfl) (Nat.le_of_ble_eq_true rfl) ?_
  refine lv_aload_n hx hb dX14_init_4 rfl (lv_at hl 0 rfl) ?_
  refine lv_aload_n hx hb dX14_init_5 rfl (lv_at hl 1 rfl) ?_
  refine va_putF (D := G.1) (ci := 12) (v := .ref hillA) (ty := (.object "WindowHill$Hill")) (C := RX14) (T := TX14) (N := 9) hx hb hts in_X14 tyX14 tyX14_ok nmX14 hown hK.1 hP hD hS 0 rfl rfl 0 (Nat.le_of_ble_eq_true rfl) (hts _ q1335) (fun _ h => h) rfl hnm rfl (tyX14_ok 0 (Nat.le_of_ble_eq_true rfl)) rfl rfl (Nat.le_of_ble_eq_true rfl) dX14_init_6 (fun H locs hP hD hS => ?_)
  have hP : va_P G.1 zcl [(oA, .inr (12, [.ref hillA, .int 0, .int 0, .int 0, .int 0, .int 0, .int 0, .int (zb false), .int (zb false)]))] H := hP
  have hD : va_D A [(oA, .inr (12, [.ref hillA, .int 0, .int 0, .int 0, .int 0, .int 0, .int 0, .int (zb false), .int (zb false)]))] := hD
  refine lv_aload_n hx hb dX14_init_9 rfl (lv_at hl 0 rfl) ?_
  refine lv_iload_n hx hb dX14_init_10 rfl (lv_at hl 2 rfl) ?_
  refine va_put (D := G.1) (ci := 12) (v := .int seed) (ty := .int) (C := RX14) (T := TX14) (N := 9) hx hb hts in_X14 tyX14 tyX14_ok nmX14 hown hK.1 hP hD hS 0 rfl rfl 1 (Nat.le_of_ble_eq_true rfl) (hts _ q1338) (fun _ h => h) rfl (tyX14_ok 1 (Nat.le_of_ble_eq_true rfl)) rfl rfl (Nat.le_of_ble_eq_true rfl) dX14_init_11 (fun H locs hP hD hS => ?_)
  have hP : va_P G.1 zcl [(oA, .inr (12, [.ref hillA, .int seed, .int 0, .int 0, .int 0, .int 0, .int 0, .int (zb false), .int (zb false)]))] H := hP
  have hD : va_D A [(oA, .inr (12, [.ref hillA, .int seed, .int 0, .int 0, .int 0, .int 0, .int 0, .int (zb false), .int (zb false)]))] := hD
  exact zr_nv (zAd []) hx hb hr hlocks hP hD hS dX14_init_14 rfl rfl trivial
theorem hd_X9_init : yX9_init.cls = RX9 ∧ yX9_init.cls ≠ "java/lang/invoke/MethodHandle" ∧ yX9_init.cls ≠ "java/lang/invoke/VarHandle" ∧ (parseMethodDescriptor yX9_init.desc).map (fun d => d.parameters.length) = some 0 := by decide +kernel
set_option maxHeartbeats 4000000 in
set_option maxRecDepth 100000 in
theorem mt_cf_Step (l : Launch) (G : zG)  (oA : Nat) (sz : Nat) : Met l yX9_init (ws_ yX9_init cX9_init 1 none) (zR 2 0 0) (zPm G sz [.ref oA] []) (zQe G (fun (u : Nat → Nat) => True) (fun (u : Nat → Nat) => none) (fun (u : Nat → Nat) => []) (va_A [] sz)) 0 0 (va_A [] sz) := by
  refine zr_entW (by decide) (Nat.le_of_ble_eq_true rfl) ?_
  intro p e s m below meth c ⟨hx, hb, hr, hml, hown, hts, hlocks, hnm⟩ ls hl hP hK A hE hA hD hS
  have hown : s.vm.findClass RX9 = some m.cls := hown
  have hl : lv_has ls 1 [(0, .ref oA)] := hl
  obtain ⟨H, hH⟩ : ∃ H, H = s.heap := ⟨_, rfl⟩
  obtain ⟨locs, hlo⟩ : ∃ L : List Loc, L = [] := ⟨_, rfl⟩
  rw [← hH] at hP
  have hS : va_S A s.heap H locs := by rw [hH, hlo]; exact va_S.rf
  have hgo : W p l e (zR 2 0 0) s m ([.ref oA] : List Value).toArray below meth c H locs 0 0 (MQ below (zQe G (fun (u : Nat → Nat) => True) (fun (u : Nat → Nat) => none) (fun (u : Nat → Nat) => []) A) ([.ref oA] : List Value).toArray s 0 0 A) (F0 m 0 ls []) := ?_
  · rw [hH, hlo] at hgo; exact hgo
  clear hH hlo
  refine lv_aload_n hx hb dX9_init_0 rfl (lv_at hl 0 rfl) ?_
  refine W.objInit hx hb hown (hts _ q878) (hts _ q170) (hts _ q171) rfl (by rw [hml]; exact hl.1) rfl dX9_init_1 (Nat.le_of_ble_eq_true rfl) (Nat.le_of_ble_eq_true rfl) ?_
  exact zr_nv (zAd []) hx hb hr hlocks hP hD hS dX9_init_4 rfl rfl trivial
theorem hd_X13_init : yX13_init.cls = RX13 ∧ yX13_init.cls ≠ "java/lang/invoke/MethodHandle" ∧ yX13_init.cls ≠ "java/lang/invoke/VarHandle" ∧ (parseMethodDescriptor yX13_init.desc).map (fun d => d.parameters.length) = some 2 := by decide +kernel
set_option maxHeartbeats 4000000 in
set_option maxRecDepth 100000 in
theorem mt_cf_Act (l : Launch) (G : zG) (oA : Nat) (what : Int32) (number : Int32) (sz : Nat) : Met l yX13_init (ws_ yX13_init cX13_init 3 none) (zR 3 0 0) (zPm G sz [.ref oA, .int what, .int number] [(oA, .inr (11, [.int 0, .int 0]))]) (zQe G (fun (u : Nat → Nat) => True) (fun (u : Nat → Nat) => none) (fun (u : Nat → Nat) => [(oA, .inr (11, [.int what, .int number]))]) (va_A [(oA, .inr (11, [.int 0, .int 0]))] sz)) 0 0 (va_A [(oA, .inr (11, [.int 0, .int 0]))] sz) := by
  refine zr_entW (by decide) (Nat.le_of_ble_eq_true rfl) ?_
  intro p e s m below meth c ⟨hx, hb, hr, hml, hown, hts, hlocks, hnm⟩ ls hl hP hK A hE hA hD hS
  have hown : s.vm.findClass RX13 = some m.cls := hown
  have hl : lv_has ls 3 [(0, .ref oA), (1, .int what), (2, .int number)] := hl
  obtain ⟨H, hH⟩ : ∃ H, H = s.heap := ⟨_, rfl⟩
  obtain ⟨locs, hlo⟩ : ∃ L : List Loc, L = [] := ⟨_, rfl⟩
  rw [← hH] at hP
  have hS : va_S A s.heap H locs := by rw [hH, hlo]; exact va_S.rf
  have hgo : W p l e (zR 3 0 0) s m ([.ref oA, .int what, .int number] : List Value).toArray below meth c H locs 0 0 (MQ below (zQe G (fun (u : Nat → Nat) => True) (fun (u : Nat → Nat) => none) (fun (u : Nat → Nat) => [(oA, .inr (11, [.int what, .int number]))]) A) ([.ref oA, .int what, .int number] : List Value).toArray s 0 0 A) (F0 m 0 ls []) := ?_
  · rw [hH, hlo] at hgo; exact hgo
  clear hH hlo
  refine lv_aload_n hx hb dX13_init_0 rfl (lv_at hl 0 rfl) ?_
  refine zr_muNIN (ws := [(oA, .inr (11, [.int 0, .int 0]))]) (F := ()) (ff := fun t_1 _ => True) (wr := [(oA, .inr (11, [.int 0, .int 0]))]) (w0 := []) (w1 := fun t_1 un1 => []) (wn := fun t_1 un1 => [(oA, .inr (11, [.int 0, .int 0]))]) (perm_pos 1 [0] rfl (by decide) rfl) (fun _ _ => perm_pos 1 [0] rfl (by decide) rfl) ⟨hx, hb, hml, hown, hts⟩ (mt_cf_Step l G oA H.size) ⟨va_cnB 0 hts (lw_meth q877) rfl rfl rfl (hK.2.1.2.1 _ (List.mem_of_getElem? (i := 4) rfl)) (hts _ q157) hd_X9_init.2 ⟨(Nat.le_of_ble_eq_true rfl), (Nat.le_of_ble_eq_true rfl)⟩, rfl, hts _ q876⟩ hP hD hS hA hK hE rfl hl.1 rfl (Nat.le_of_ble_eq_true rfl) dX13_init_1 ⟨(Nat.le_of_ble_eq_true rfl), (Nat.le_of_ble_eq_true rfl)⟩ (fun t_1 un1 ht_1 hft_1 H locs hP hD hS _ => ?_)
  refine W.eq (g2 := F0 m 4 ls []) rfl ?_
  refine lv_aload_n hx hb dX13_init_4 rfl (lv_at hl 0 rfl) ?_
  refine lv_iload_n hx hb dX13_init_5 rfl (lv_at hl 1 rfl) ?_
  refine va_putF (D := G.1) (ci := 11) (v := .int what) (ty := .int) (C := RX13) (T := TX13) (N := 2) hx hb hts in_X13 tyX13 tyX13_ok nmX13 hown hK.1 hP hD hS 0 rfl rfl 0 (Nat.le_of_ble_eq_true rfl) (hts _ q945) (fun _ h => h) rfl hnm rfl (tyX13_ok 0 (Nat.le_of_ble_eq_true rfl)) rfl rfl (Nat.le_of_ble_eq_true rfl) dX13_init_6 (fun H locs hP hD hS => ?_)
  have hP : va_P G.1 zcl [(oA, .inr (11, [.int what, .int 0]))] H := hP
  have hD : va_D A [(oA, .inr (11, [.int what, .int 0]))] := hD
  refine lv_aload_n hx hb dX13_init_9 rfl (lv_at hl 0 rfl) ?_
  refine lv_iload_n hx hb dX13_init_10 rfl (lv_at hl 2 rfl) ?_
  refine va_putF (D := G.1) (ci := 11) (v := .int number) (ty := .int) (C := RX13) (T := TX13) (N := 2) hx hb hts in_X13 tyX13 tyX13_ok nmX13 hown hK.1 hP hD hS 0 rfl rfl 1 (Nat.le_of_ble_eq_true rfl) (hts _ q946) (fun _ h => h) rfl hnm rfl (tyX13_ok 1 (Nat.le_of_ble_eq_true rfl)) rfl rfl (Nat.le_of_ble_eq_true rfl) dX13_init_11 (fun H locs hP hD hS => ?_)
  have hP : va_P G.1 zcl [(oA, .inr (11, [.int what, .int number]))] H := hP
  have hD : va_D A [(oA, .inr (11, [.int what, .int number]))] := hD
  exact zr_nv (zAd []) hx hb hr hlocks hP hD hS dX13_init_14 rfl rfl trivial
