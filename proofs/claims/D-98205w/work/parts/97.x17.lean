theorem zZq {C n d : String} {A : Nat → Prop} {U : State} {H : Heap} (h : va_Zq C n d A U H) : ∃ o : Option Nat, va_Z C n d (va_rf o) A U H := by
  rcases h with h | ⟨t, h⟩
  · exact ⟨none, h⟩
  · exact ⟨some t, h⟩
theorem zq_narA {x : Option Nat} {t : FieldType} : narrow (.array t) (va_rf x) = va_rf x := by cases x <;> rfl
theorem zq_fitA {x : Option Nat} {t : FieldType} : fits (.array t) (va_rf x) = true := by cases x <;> rfl
theorem hd_J0_init_2 : yJ0_init_2.cls = RJ0 ∧ yJ0_init_2.cls ≠ "java/lang/invoke/MethodHandle" ∧ yJ0_init_2.cls ≠ "java/lang/invoke/VarHandle" ∧ (parseMethodDescriptor yJ0_init_2.desc).map (fun d => d.parameters.length) = some 4 := by decide +kernel
set_option maxHeartbeats 4000000 in
set_option maxRecDepth 100000 in
theorem mt_cf_ThrB (l : Launch) (G : zG) (oA : Nat) (sz : Nat) : Met l yJ0_init_2 (ws_ yJ0_init_2 cJ0_init_2 5 none) (zR 2 0 0) (zPm G sz [.ref oA, .null, .null, .int 0, .int 0] [(oA, .inr (2, [.null, .null, .null, .null, .null, .int 0, .int 0, .int 0]))]) (zQe G (fun (u : Nat → Nat) => True) (fun (u : Nat → Nat) => none) (fun (u : Nat → Nat) => [(oA, .inr (2, [.null, .null, .null, .null, .null, .int 0, .int 0, .int 0]))]) (va_A [(oA, .inr (2, [.null, .null, .null, .null, .null, .int 0, .int 0, .int 0]))] sz)) 0 0 (va_A [(oA, .inr (2, [.null, .null, .null, .null, .null, .int 0, .int 0, .int 0]))] sz) := by
  refine zr_entW (by decide) (Nat.le_of_ble_eq_true rfl) ?_
  intro p e s m below meth c ⟨hx, hb, hr, hml, hown, hts, hlocks, hnm⟩ ls hl hP hK A hE hA hD hS
  have hown : s.vm.findClass RJ0 = some m.cls := hown
  have hl : lv_has ls 5 [(0, .ref oA), (1, .null), (2, .null), (3, .int 0), (4, .int 0)] := hl
  obtain ⟨H, hH⟩ : ∃ H, H = s.heap := ⟨_, rfl⟩
  obtain ⟨locs, hlo⟩ : ∃ L : List Loc, L = [] := ⟨_, rfl⟩
  rw [← hH] at hP
  have hS : va_S A s.heap H locs := by rw [hH, hlo]; exact va_S.rf
  have hgo : W p l e (zR 2 0 0) s m ([.ref oA, .null, .null, .int 0, .int 0] : List Value).toArray below meth c H locs 0 0 (MQ below (zQe G (fun (u : Nat → Nat) => True) (fun (u : Nat → Nat) => none) (fun (u : Nat → Nat) => [(oA, .inr (2, [.null, .null, .null, .null, .null, .int 0, .int 0, .int 0]))]) A) ([.ref oA, .null, .null, .int 0, .int 0] : List Value).toArray s 0 0 A) (F0 m 0 ls []) := ?_
  · rw [hH, hlo] at hgo; exact hgo
  clear hH hlo
  refine lv_aload_n hx hb dJ0_init_2_0 rfl (lv_at hl 0 rfl) ?_
  refine W.objInit hx hb hown (hts _ q206) (hts _ q170) (hts _ q171) rfl (by rw [hml]; exact hl.1) rfl dJ0_init_2_1 (Nat.le_of_ble_eq_true rfl) (Nat.le_of_ble_eq_true rfl) ?_
  refine lv_aload_n hx hb dJ0_init_2_4 rfl (lv_at hl 0 rfl) ?_
  refine lv_aload_n hx hb dJ0_init_2_5 rfl (lv_at hl 0 rfl) ?_
  refine va_put (D := G.1) (ci := 2) (v := .ref oA) (ty := (.object "java/lang/Throwable")) (C := RX2) (T := TX2) (N := 8) hx hb hts in_X2 tyX2 tyX2_ok nmX2 hown hK.1 hP hD hS 0 rfl rfl 0 (Nat.le_of_ble_eq_true rfl) (hts _ q238) (fun _ h => h) rfl (tyX2_ok 0 (Nat.le_of_ble_eq_true rfl)) rfl rfl (Nat.le_of_ble_eq_true rfl) dJ0_init_2_6 (fun H locs hP hD hS => ?_)
  have hP : va_P G.1 zcl [(oA, .inr (2, [.ref oA, .null, .null, .null, .null, .int 0, .int 0, .int 0]))] H := hP
  have hD : va_D A [(oA, .inr (2, [.ref oA, .null, .null, .null, .null, .int 0, .int 0, .int 0]))] := hD
  refine lv_aload_n hx hb dJ0_init_2_9 rfl (lv_at hl 0 rfl) ?_
  obtain ⟨zo_1, hz_zo_1⟩ := zZq hE.2.2.2.1.1
  refine va_gets hx hb hz_zo_1 hS hown (hts _ q207) (fun _ h => h) dJ0_init_2_10 ?_
  refine va_put (D := G.1) (ci := 2) (v := va_rf zo_1) (ty := (.array (.object "java/lang/StackTraceElement"))) (C := RX2) (T := TX2) (N := 8) hx hb hts in_X2 tyX2 tyX2_ok nmX2 hown hK.1 hP hD hS 0 rfl rfl 1 (Nat.le_of_ble_eq_true rfl) (hts _ q239) (fun _ h => h) rfl (tyX2_ok 1 (Nat.le_of_ble_eq_true rfl)) zq_narA zq_fitA (Nat.le_of_ble_eq_true rfl) dJ0_init_2_13 (fun H locs hP hD hS => ?_)
  have hP : va_P G.1 zcl [(oA, .inr (2, [.ref oA, va_rf zo_1, .null, .null, .null, .int 0, .int 0, .int 0]))] H := hP
  have hD : va_D A [(oA, .inr (2, [.ref oA, va_rf zo_1, .null, .null, .null, .int 0, .int 0, .int 0]))] := hD
  refine lv_aload_n hx hb dJ0_init_2_16 rfl (lv_at hl 0 rfl) ?_
  obtain ⟨zo_2, hz_zo_2⟩ := zZq hE.2.2.2.2.1
  refine va_gets hx hb hz_zo_2 hS hown (hts _ q209) (fun _ h => h) dJ0_init_2_17 ?_
  refine va_put (D := G.1) (ci := 2) (v := va_rf zo_2) (ty := (.object "java/util/List")) (C := RX2) (T := TX2) (N := 8) hx hb hts in_X2 tyX2 tyX2_ok nmX2 hown hK.1 hP hD hS 0 rfl rfl 2 (Nat.le_of_ble_eq_true rfl) (hts _ q240) (fun _ h => h) rfl (tyX2_ok 2 (Nat.le_of_ble_eq_true rfl)) zq_nar zq_fit (Nat.le_of_ble_eq_true rfl) dJ0_init_2_20 (fun H locs hP hD hS => ?_)
  have hP : va_P G.1 zcl [(oA, .inr (2, [.ref oA, va_rf zo_1, va_rf zo_2, .null, .null, .int 0, .int 0, .int 0]))] H := hP
  have hD : va_D A [(oA, .inr (2, [.ref oA, va_rf zo_1, va_rf zo_2, .null, .null, .int 0, .int 0, .int 0]))] := hD
  refine lv_iload hx hb dJ0_init_2_23 (lv_at hl 4 rfl) ?_
  refine lv_if_eq (tgt := 36) hx hb dJ0_init_2_25 rfl (fun _ => ?_) (fun z => absurd (by decide) z)
  refine lv_aload_n hx hb dJ0_init_2_36 rfl (lv_at hl 0 rfl) ?_
  refine lv_null hx hb dJ0_init_2_37 ?_
  refine va_put (D := G.1) (ci := 2) (v := .null) (ty := (.array (.object "java/lang/StackTraceElement"))) (C := RX2) (T := TX2) (N := 8) hx hb hts in_X2 tyX2 tyX2_ok nmX2 hown hK.1 hP hD hS 0 rfl rfl 1 (Nat.le_of_ble_eq_true rfl) (hts _ q239) (fun _ h => h) rfl (tyX2_ok 1 (Nat.le_of_ble_eq_true rfl)) rfl rfl (Nat.le_of_ble_eq_true rfl) dJ0_init_2_38 (fun H locs hP hD hS => ?_)
  have hP : va_P G.1 zcl [(oA, .inr (2, [.ref oA, .null, va_rf zo_2, .null, .null, .int 0, .int 0, .int 0]))] H := hP
  have hD : va_D A [(oA, .inr (2, [.ref oA, .null, va_rf zo_2, .null, .null, .int 0, .int 0, .int 0]))] := hD
  refine lv_aload_n hx hb dJ0_init_2_41 rfl (lv_at hl 0 rfl) ?_
  refine lv_aload_nN hx hb dJ0_init_2_42 rfl (lv_at hl 1 rfl) ?_
  refine va_put (D := G.1) (ci := 2) (v := .null) (ty := (.object "java/lang/String")) (C := RX2) (T := TX2) (N := 8) hx hb hts in_X2 tyX2 tyX2_ok nmX2 hown hK.1 hP hD hS 0 rfl rfl 3 (Nat.le_of_ble_eq_true rfl) (hts _ q237) (fun _ h => h) rfl (tyX2_ok 3 (Nat.le_of_ble_eq_true rfl)) rfl rfl (Nat.le_of_ble_eq_true rfl) dJ0_init_2_43 (fun H locs hP hD hS => ?_)
  have hP : va_P G.1 zcl [(oA, .inr (2, [.ref oA, .null, va_rf zo_2, .null, .null, .int 0, .int 0, .int 0]))] H := hP
  have hD : va_D A [(oA, .inr (2, [.ref oA, .null, va_rf zo_2, .null, .null, .int 0, .int 0, .int 0]))] := hD
  refine lv_aload_n hx hb dJ0_init_2_46 rfl (lv_at hl 0 rfl) ?_
  refine lv_aload_nN hx hb dJ0_init_2_47 rfl (lv_at hl 2 rfl) ?_
  refine va_put (D := G.1) (ci := 2) (v := .null) (ty := (.object "java/lang/Throwable")) (C := RX2) (T := TX2) (N := 8) hx hb hts in_X2 tyX2 tyX2_ok nmX2 hown hK.1 hP hD hS 0 rfl rfl 0 (Nat.le_of_ble_eq_true rfl) (hts _ q238) (fun _ h => h) rfl (tyX2_ok 0 (Nat.le_of_ble_eq_true rfl)) rfl rfl (Nat.le_of_ble_eq_true rfl) dJ0_init_2_48 (fun H locs hP hD hS => ?_)
  have hP : va_P G.1 zcl [(oA, .inr (2, [.null, .null, va_rf zo_2, .null, .null, .int 0, .int 0, .int 0]))] H := hP
  have hD : va_D A [(oA, .inr (2, [.null, .null, va_rf zo_2, .null, .null, .int 0, .int 0, .int 0]))] := hD
  refine lv_iload_n hx hb dJ0_init_2_51 rfl (lv_at hl 3 rfl) ?_
  refine lv_if_ne (tgt := 60) hx hb dJ0_init_2_52 (by decide) (fun z => absurd (by decide) z) (fun _ => ?_)
  refine lv_aload_n hx hb dJ0_init_2_55 rfl (lv_at hl 0 rfl) ?_
  refine lv_null hx hb dJ0_init_2_56 ?_
  refine va_put (D := G.1) (ci := 2) (v := .null) (ty := (.object "java/util/List")) (C := RX2) (T := TX2) (N := 8) hx hb hts in_X2 tyX2 tyX2_ok nmX2 hown hK.1 hP hD hS 0 rfl rfl 2 (Nat.le_of_ble_eq_true rfl) (hts _ q240) (fun _ h => h) rfl (tyX2_ok 2 (Nat.le_of_ble_eq_true rfl)) rfl rfl (Nat.le_of_ble_eq_true rfl) dJ0_init_2_57 (fun H locs hP hD hS => ?_)
  have hP : va_P G.1 zcl [(oA, .inr (2, [.null, .null, .null, .null, .null, .int 0, .int 0, .int 0]))] H := hP
  have hD : va_D A [(oA, .inr (2, [.null, .null, .null, .null, .null, .int 0, .int 0, .int 0]))] := hD
  exact zr_nv (zAd []) hx hb hr hlocks hP hD hS dJ0_init_2_60 rfl rfl trivial
theorem hd_J1_init : yJ1_init.cls = RJ1 ∧ yJ1_init.cls ≠ "java/lang/invoke/MethodHandle" ∧ yJ1_init.cls ≠ "java/lang/invoke/VarHandle" ∧ (parseMethodDescriptor yJ1_init.desc).map (fun d => d.parameters.length) = some 4 := by decide +kernel
set_option maxHeartbeats 4000000 in
set_option maxRecDepth 100000 in
theorem mt_cf_ExcB (l : Launch) (G : zG) (oA : Nat) (sz : Nat) : Met l yJ1_init (ws_ yJ1_init cJ1_init 5 none) (zR 3 0 0) (zPm G sz [.ref oA, .null, .null, .int 0, .int 0] [(oA, .inr (2, [.null, .null, .null, .null, .null, .int 0, .int 0, .int 0]))]) (zQe G (fun (u : Nat → Nat) => True) (fun (u : Nat → Nat) => none) (fun (u : Nat → Nat) => [(oA, .inr (2, [.null, .null, .null, .null, .null, .int 0, .int 0, .int 0]))]) (va_A [(oA, .inr (2, [.null, .null, .null, .null, .null, .int 0, .int 0, .int 0]))] sz)) 0 0 (va_A [(oA, .inr (2, [.null, .null, .null, .null, .null, .int 0, .int 0, .int 0]))] sz) := by
  refine zr_entW (by decide) (Nat.le_of_ble_eq_true rfl) ?_
  intro p e s m below meth c ⟨hx, hb, hr, hml, hown, hts, hlocks, hnm⟩ ls hl hP hK A hE hA hD hS
  have hown : s.vm.findClass RJ1 = some m.cls := hown
  have hl : lv_has ls 5 [(0, .ref oA), (1, .null), (2, .null), (3, .int 0), (4, .int 0)] := hl
  obtain ⟨H, hH⟩ : ∃ H, H = s.heap := ⟨_, rfl⟩
  obtain ⟨locs, hlo⟩ : ∃ L : List Loc, L = [] := ⟨_, rfl⟩
  rw [← hH] at hP
  have hS : va_S A s.heap H locs := by rw [hH, hlo]; exact va_S.rf
  have hgo : W p l e (zR 3 0 0) s m ([.ref oA, .null, .null, .int 0, .int 0] : List Value).toArray below meth c H locs 0 0 (MQ below (zQe G (fun (u : Nat → Nat) => True) (fun (u : Nat → Nat) => none) (fun (u : Nat → Nat) => [(oA, .inr (2, [.null, .null, .null, .null, .null, .int 0, .int 0, .int 0]))]) A) ([.ref oA, .null, .null, .int 0, .int 0] : List Value).toArray s 0 0 A) (F0 m 0 ls []) := ?_
  · rw [hH, hlo] at hgo; exact hgo
  clear hH hlo
  refine lv_aload_n hx hb dJ1_init_0 rfl (lv_at hl 0 rfl) ?_
  refine lv_aload_nN hx hb dJ1_init_1 rfl (lv_at hl 1 rfl) ?_
  refine lv_aload_nN hx hb dJ1_init_2 rfl (lv_at hl 2 rfl) ?_
  refine lv_iload_n hx hb dJ1_init_3 rfl (lv_at hl 3 rfl) ?_
  refine lv_iload hx hb dJ1_init_4 (lv_at hl 4 rfl) ?_
  refine zr_muNI (ws := [(oA, .inr (2, [.null, .null, .null, .null, .null, .int 0, .int 0, .int 0]))]) (F := ()) (ff := fun t_1 _ => True) (wr := []) (w0 := [(oA, .inr (2, [.null, .null, .null, .null, .null, .int 0, .int 0, .int 0]))]) (w1 := fun t_1 un1 => [(oA, .inr (2, [.null, .null, .null, .null, .null, .int 0, .int 0, .int 0]))]) (wn := fun t_1 un1 => [(oA, .inr (2, [.null, .null, .null, .null, .null, .int 0, .int 0, .int 0]))]) (perm_pos 1 [0] rfl (by decide) rfl) (fun _ _ => perm_pos 1 [0] rfl (by decide) rfl) ⟨hx, hb, hml, hown, hts⟩ (mt_cf_ThrB l G oA H.size) (cwI 4 hts (lw_meth q231) rfl rfl rfl (hts _ q137) (hts _ q229) (hts _ q230) rfl hd_J0_init_2.2 ⟨(Nat.le_of_ble_eq_true rfl), (Nat.le_of_ble_eq_true rfl)⟩) hP hD hS hA hK hE rfl hl.1 rfl (Nat.le_of_ble_eq_true rfl) dJ1_init_6 ⟨(Nat.le_of_ble_eq_true rfl), (Nat.le_of_ble_eq_true rfl)⟩ (fun t_1 un1 ht_1 hft_1 H locs hP hD hS _ => ?_)
  refine W.eq (g2 := F0 m 9 ls []) rfl ?_
  exact zr_nv (zAd []) hx hb hr hlocks hP hD hS dJ1_init_9 rfl rfl trivial
theorem hd_X2_init : yX2_init.cls = RX2 ∧ yX2_init.cls ≠ "java/lang/invoke/MethodHandle" ∧ yX2_init.cls ≠ "java/lang/invoke/VarHandle" ∧ (parseMethodDescriptor yX2_init.desc).map (fun d => d.parameters.length) = some 0 := by decide +kernel
set_option maxHeartbeats 4000000 in
set_option maxRecDepth 100000 in
theorem mt_cf_Bad (l : Launch) (G : zG) (oA : Nat) (sz : Nat) : Met l yX2_init (ws_ yX2_init cX2_init 1 none) (zR 4 0 0) (zPm G sz [.ref oA] [(oA, .inr (2, [.null, .null, .null, .null, .null, .int 0, .int 0, .int 0]))]) (zQe G (fun (u : Nat → Nat) => True) (fun (u : Nat → Nat) => none) (fun (u : Nat → Nat) => [(oA, .inr (2, [.null, .null, .null, .null, .null, .int 0, .int 0, .int 0]))]) (va_A [(oA, .inr (2, [.null, .null, .null, .null, .null, .int 0, .int 0, .int 0]))] sz)) 0 0 (va_A [(oA, .inr (2, [.null, .null, .null, .null, .null, .int 0, .int 0, .int 0]))] sz) := by
  refine zr_entW (by decide) (Nat.le_of_ble_eq_true rfl) ?_
  intro p e s m below meth c ⟨hx, hb, hr, hml, hown, hts, hlocks, hnm⟩ ls hl hP hK A hE hA hD hS
  have hown : s.vm.findClass RX2 = some m.cls := hown
  have hl : lv_has ls 1 [(0, .ref oA)] := hl
  obtain ⟨H, hH⟩ : ∃ H, H = s.heap := ⟨_, rfl⟩
  obtain ⟨locs, hlo⟩ : ∃ L : List Loc, L = [] := ⟨_, rfl⟩
  rw [← hH] at hP
  have hS : va_S A s.heap H locs := by rw [hH, hlo]; exact va_S.rf
  have hgo : W p l e (zR 4 0 0) s m ([.ref oA] : List Value).toArray below meth c H locs 0 0 (MQ below (zQe G (fun (u : Nat → Nat) => True) (fun (u : Nat → Nat) => none) (fun (u : Nat → Nat) => [(oA, .inr (2, [.null, .null, .null, .null, .null, .int 0, .int 0, .int 0]))]) A) ([.ref oA] : List Value).toArray s 0 0 A) (F0 m 0 ls []) := ?_
  · rw [hH, hlo] at hgo; exact hgo
  clear hH hlo
  refine lv_aload_n hx hb dX2_init_0 rfl (lv_at hl 0 rfl) ?_
  refine lv_null hx hb dX2_init_1 ?_
  refine lv_null hx hb dX2_init_2 ?_
  refine lv_iconst (v := 0) hx hb dX2_init_3 (by decide) ?_
  refine lv_iconst (v := 0) hx hb dX2_init_4 (by decide) ?_
  refine zr_muNI (ws := [(oA, .inr (2, [.null, .null, .null, .null, .null, .int 0, .int 0, .int 0]))]) (F := ()) (ff := fun t_1 _ => True) (wr := []) (w0 := [(oA, .inr (2, [.null, .null, .null, .null, .null, .int 0, .int 0, .int 0]))]) (w1 := fun t_1 un1 => [(oA, .inr (2, [.null, .null, .null, .null, .null, .int 0, .int 0, .int 0]))]) (wn := fun t_1 un1 => [(oA, .inr (2, [.null, .null, .null, .null, .null, .int 0, .int 0, .int 0]))]) (perm_pos 1 [0] rfl (by decide) rfl) (fun _ _ => perm_pos 1 [0] rfl (by decide) rfl) ⟨hx, hb, hml, hown, hts⟩ (mt_cf_ExcB l G oA H.size) (cwI 4 hts (lw_meth q228) rfl rfl rfl (hts _ q138) (hts _ q226) (hts _ q227) rfl hd_J1_init.2 ⟨(Nat.le_of_ble_eq_true rfl), (Nat.le_of_ble_eq_true rfl)⟩) hP hD hS hA hK hE rfl hl.1 rfl (Nat.le_of_ble_eq_true rfl) dX2_init_5 ⟨(Nat.le_of_ble_eq_true rfl), (Nat.le_of_ble_eq_true rfl)⟩ (fun t_1 un1 ht_1 hft_1 H locs hP hD hS _ => ?_)
  refine W.eq (g2 := F0 m 8 ls []) rfl ?_
  exact zr_nv (zAd []) hx hb hr hlocks hP hD hS dX2_init_8 rfl rfl trivial
set_option maxHeartbeats 4000000 in
set_option maxRecDepth 100000 in
theorem mt_cf_ThrR (l : Launch) (G : zG) (oA : Nat) (sz : Nat) : Met l yJ0_init_2 (ws_ yJ0_init_2 cJ0_init_2 5 none) (zR 2 0 0) (zPm G sz [.ref oA, .null, .null, .int 0, .int 0] [(oA, .inr (3, [.null, .null, .null, .null, .null, .int 0, .int 0]))]) (zQe G (fun (u : Nat → Nat) => True) (fun (u : Nat → Nat) => none) (fun (u : Nat → Nat) => [(oA, .inr (3, [.null, .null, .null, .null, .null, .int 0, .int 0]))]) (va_A [(oA, .inr (3, [.null, .null, .null, .null, .null, .int 0, .int 0]))] sz)) 0 0 (va_A [(oA, .inr (3, [.null, .null, .null, .null, .null, .int 0, .int 0]))] sz) := by
  refine zr_entW (by decide) (Nat.le_of_ble_eq_true rfl) ?_
  intro p e s m below meth c ⟨hx, hb, hr, hml, hown, hts, hlocks, hnm⟩ ls hl hP hK A hE hA hD hS
  have hown : s.vm.findClass RJ0 = some m.cls := hown
  have hl : lv_has ls 5 [(0, .ref oA), (1, .null), (2, .null), (3, .int 0), (4, .int 0)] := hl
  obtain ⟨H, hH⟩ : ∃ H, H = s.heap := ⟨_, rfl⟩
  obtain ⟨locs, hlo⟩ : ∃ L : List Loc, L = [] := ⟨_, rfl⟩
  rw [← hH] at hP
  have hS : va_S A s.heap H locs := by rw [hH, hlo]; exact va_S.rf
  have hgo : W p l e (zR 2 0 0) s m ([.ref oA, .null, .null, .int 0, .int 0] : List Value).toArray below meth c H locs 0 0 (MQ below (zQe G (fun (u : Nat → Nat) => True) (fun (u : Nat → Nat) => none) (fun (u : Nat → Nat) => [(oA, .inr (3, [.null, .null, .null, .null, .null, .int 0, .int 0]))]) A) ([.ref oA, .null, .null, .int 0, .int 0] : List Value).toArray s 0 0 A) (F0 m 0 ls []) := ?_
  · rw [hH, hlo] at hgo; exact hgo
  clear hH hlo
  refine lv_aload_n hx hb dJ0_init_2_0 rfl (lv_at hl 0 rfl) ?_
  refine W.objInit hx hb hown (hts _ q206) (hts _ q170) (hts _ q171) rfl (by rw [hml]; exact hl.1) rfl dJ0_init_2_1 (Nat.le_of_ble_eq_true rfl) (Nat.le_of_ble_eq_true rfl) ?_
  refine lv_aload_n hx hb dJ0_init_2_4 rfl (lv_at hl 0 rfl) ?_
  refine lv_aload_n hx hb dJ0_init_2_5 rfl (lv_at hl 0 rfl) ?_
  refine va_put (D := G.1) (ci := 3) (v := .ref oA) (ty := (.object "java/lang/Throwable")) (C := RX3) (T := TX3) (N := 7) hx hb hts in_X3 tyX3 tyX3_ok nmX3 hown hK.1 hP hD hS 0 rfl rfl 0 (Nat.le_of_ble_eq_true rfl) (hts _ q238) (fun _ h => h) rfl (tyX3_ok 0 (Nat.le_of_ble_eq_true rfl)) rfl rfl (Nat.le_of_ble_eq_true rfl) dJ0_init_2_6 (fun H locs hP hD hS => ?_)
  have hP : va_P G.1 zcl [(oA, .inr (3, [.ref oA, .null, .null, .null, .null, .int 0, .int 0]))] H := hP
  have hD : va_D A [(oA, .inr (3, [.ref oA, .null, .null, .null, .null, .int 0, .int 0]))] := hD
  refine lv_aload_n hx hb dJ0_init_2_9 rfl (lv_at hl 0 rfl) ?_
  obtain ⟨zo_1, hz_zo_1⟩ := zZq hE.2.2.2.1.1
  refine va_gets hx hb hz_zo_1 hS hown (hts _ q207) (fun _ h => h) dJ0_init_2_10 ?_
  refine va_put (D := G.1) (ci := 3) (v := va_rf zo_1) (ty := (.array (.object "java/lang/StackTraceElement"))) (C := RX3) (T := TX3) (N := 7) hx hb hts in_X3 tyX3 tyX3_ok nmX3 hown hK.1 hP hD hS 0 rfl rfl 1 (Nat.le_of_ble_eq_true rfl) (hts _ q239) (fun _ h => h) rfl (tyX3_ok 1 (Nat.le_of_ble_eq_true rfl)) zq_narA zq_fitA (Nat.le_of_ble_eq_true rfl) dJ0_init_2_13 (fun H locs hP hD hS => ?_)
  have hP : va_P G.1 zcl [(oA, .inr (3, [.ref oA, va_rf zo_1, .null, .null, .null, .int 0, .int 0]))] H := hP
  have hD : va_D A [(oA, .inr (3, [.ref oA, va_rf zo_1, .null, .null, .null, .int 0, .int 0]))] := hD
  refine lv_aload_n hx hb dJ0_init_2_16 rfl (lv_at hl 0 rfl) ?_
  obtain ⟨zo_2, hz_zo_2⟩ := zZq hE.2.2.2.2.1
  refine va_gets hx hb hz_zo_2 hS hown (hts _ q209) (fun _ h => h) dJ0_init_2_17 ?_
  refine va_put (D := G.1) (ci := 3) (v := va_rf zo_2) (ty := (.object "java/util/List")) (C := RX3) (T := TX3) (N := 7) hx hb hts in_X3 tyX3 tyX3_ok nmX3 hown hK.1 hP hD hS 0 rfl rfl 2 (Nat.le_of_ble_eq_true rfl) (hts _ q240) (fun _ h => h) rfl (tyX3_ok 2 (Nat.le_of_ble_eq_true rfl)) zq_nar zq_fit (Nat.le_of_ble_eq_true rfl) dJ0_init_2_20 (fun H locs hP hD hS => ?_)
  have hP : va_P G.1 zcl [(oA, .inr (3, [.ref oA, va_rf zo_1, va_rf zo_2, .null, .null, .int 0, .int 0]))] H := hP
  have hD : va_D A [(oA, .inr (3, [.ref oA, va_rf zo_1, va_rf zo_2, .null, .null, .int 0, .int 0]))] := hD
  refine lv_iload hx hb dJ0_init_2_23 (lv_at hl 4 rfl) ?_
  refine lv_if_eq (tgt := 36) hx hb dJ0_init_2_25 rfl (fun _ => ?_) (fun z => absurd (by decide) z)
  refine lv_aload_n hx hb dJ0_init_2_36 rfl (lv_at hl 0 rfl) ?_
  refine lv_null hx hb dJ0_init_2_37 ?_
  refine va_put (D := G.1) (ci := 3) (v := .null) (ty := (.array (.object "java/lang/StackTraceElement"))) (C := RX3) (T := TX3) (N := 7) hx hb hts in_X3 tyX3 tyX3_ok nmX3 hown hK.1 hP hD hS 0 rfl rfl 1 (Nat.le_of_ble_eq_true rfl) (hts _ q239) (fun _ h => h) rfl (tyX3_ok 1 (Nat.le_of_ble_eq_true rfl)) rfl rfl (Nat.le_of_ble_eq_true rfl) dJ0_init_2_38 (fun H locs hP hD hS => ?_)
  have hP : va_P G.1 zcl [(oA, .inr (3, [.ref oA, .null, va_rf zo_2, .null, .null, .int 0, .int 0]))] H := hP
  have hD : va_D A [(oA, .inr (3, [.ref oA, .null, va_rf zo_2, .null, .null, .int 0, .int 0]))] := hD
  refine lv_aload_n hx hb dJ0_init_2_41 rfl (lv_at hl 0 rfl) ?_
  refine lv_aload_nN hx hb dJ0_init_2_42 rfl (lv_at hl 1 rfl) ?_
  refine va_put (D := G.1) (ci := 3) (v := .null) (ty := (.object "java/lang/String")) (C := RX3) (T := TX3) (N := 7) hx hb hts in_X3 tyX3 tyX3_ok nmX3 hown hK.1 hP hD hS 0 rfl rfl 3 (Nat.le_of_ble_eq_true rfl) (hts _ q237) (fun _ h => h) rfl (tyX3_ok 3 (Nat.le_of_ble_eq_true rfl)) rfl rfl (Nat.le_of_ble_eq_true rfl) dJ0_init_2_43 (fun H locs hP hD hS => ?_)
  have hP : va_P G.1 zcl [(oA, .inr (3, [.ref oA, .null, va_rf zo_2, .null, .null, .int 0, .int 0]))] H := hP
  have hD : va_D A [(oA, .inr (3, [.ref oA, .null, va_rf zo_2, .null, .null, .int 0, .int 0]))] := hD
  refine lv_aload_n hx hb dJ0_init_2_46 rfl (lv_at hl 0 rfl) ?_
  refine lv_aload_nN hx hb dJ0_init_2_47 rfl (lv_at hl 2 rfl) ?_
  refine va_put (D := G.1) (ci := 3) (v := .null) (ty := (.object "java/lang/Throwable")) (C := RX3) (T := TX3) (N := 7) hx hb hts in_X3 tyX3 tyX3_ok nmX3 hown hK.1 hP hD hS 0 rfl rfl 0 (Nat.le_of_ble_eq_true rfl) (hts _ q238) (fun _ h => h) rfl (tyX3_ok 0 (Nat.le_of_ble_eq_true rfl)) rfl rfl (Nat.le_of_ble_eq_true rfl) dJ0_init_2_48 (fun H locs hP hD hS => ?_)
  have hP : va_P G.1 zcl [(oA, .inr (3, [.null, .null, va_rf zo_2, .null, .null, .int 0, .int 0]))] H := hP
  have hD : va_D A [(oA, .inr (3, [.null, .null, va_rf zo_2, .null, .null, .int 0, .int 0]))] := hD
  refine lv_iload_n hx hb dJ0_init_2_51 rfl (lv_at hl 3 rfl) ?_
  refine lv_if_ne (tgt := 60) hx hb dJ0_init_2_52 (by decide) (fun z => absurd (by decide) z) (fun _ => ?_)
  refine lv_aload_n hx hb dJ0_init_2_55 rfl (lv_at hl 0 rfl) ?_
  refine lv_null hx hb dJ0_init_2_56 ?_
  refine va_put (D := G.1) (ci := 3) (v := .null) (ty := (.object "java/util/List")) (C := RX3) (T := TX3) (N := 7) hx hb hts in_X3 tyX3 tyX3_ok nmX3 hown hK.1 hP hD hS 0 rfl rfl 2 (Nat.le_of_ble_eq_true rfl) (hts _ q240) (fun _ h => h) rfl (tyX3_ok 2 (Nat.le_of_ble_eq_true rfl)) rfl rfl (Nat.le_of_ble_eq_true rfl) dJ0_init_2_57 (fun H locs hP hD hS => ?_)
  have hP : va_P G.1 zcl [(oA, .inr (3, [.null, .null, .null, .null, .null, .int 0, .int 0]))] H := hP
  have hD : va_D A [(oA, .inr (3, [.null, .null, .null, .null, .null, .int 0, .int 0]))] := hD
  exact zr_nv (zAd []) hx hb hr hlocks hP hD hS dJ0_init_2_60 rfl rfl trivial
set_option maxHeartbeats 4000000 in
set_option maxRecDepth 100000 in
theorem mt_cf_ExcR (l : Launch) (G : zG) (oA : Nat) (sz : Nat) : Met l yJ1_init (ws_ yJ1_init cJ1_init 5 none) (zR 3 0 0) (zPm G sz [.ref oA, .null, .null, .int 0, .int 0] [(oA, .inr (3, [.null, .null, .null, .null, .null, .int 0, .int 0]))]) (zQe G (fun (u : Nat → Nat) => True) (fun (u : Nat → Nat) => none) (fun (u : Nat → Nat) => [(oA, .inr (3, [.null, .null, .null, .null, .null, .int 0, .int 0]))]) (va_A [(oA, .inr (3, [.null, .null, .null, .null, .null, .int 0, .int 0]))] sz)) 0 0 (va_A [(oA, .inr (3, [.null, .null, .null, .null, .null, .int 0, .int 0]))] sz) := by
  refine zr_entW (by decide) (Nat.le_of_ble_eq_true rfl) ?_
  intro p e s m below meth c ⟨hx, hb, hr, hml, hown, hts, hlocks, hnm⟩ ls hl hP hK A hE hA hD hS
  have hown : s.vm.findClass RJ1 = some m.cls := hown
  have hl : lv_has ls 5 [(0, .ref oA), (1, .null), (2, .null), (3, .int 0), (4, .int 0)] := hl
  obtain ⟨H, hH⟩ : ∃ H, H = s.heap := ⟨_, rfl⟩
  obtain ⟨locs, hlo⟩ : ∃ L : List Loc, L = [] := ⟨_, rfl⟩
  rw [← hH] at hP
  have hS : va_S A s.heap H locs := by rw [hH, hlo]; exact va_S.rf
  have hgo : W p l e (zR 3 0 0) s m ([.ref oA, .null, .null, .int 0, .int 0] : List Value).toArray below meth c H locs 0 0 (MQ below (zQe G (fun (u : Nat → Nat) => True) (fun (u : Nat → Nat) => none) (fun (u : Nat → Nat) => [(oA, .inr (3, [.null, .null, .null, .null, .null, .int 0, .int 0]))]) A) ([.ref oA, .null, .null, .int 0, .int 0] : List Value).toArray s 0 0 A) (F0 m 0 ls []) := ?_
  · rw [hH, hlo] at hgo; exact hgo
  clear hH hlo
  refine lv_aload_n hx hb dJ1_init_0 rfl (lv_at hl 0 rfl) ?_
  refine lv_aload_nN hx hb dJ1_init_1 rfl (lv_at hl 1 rfl) ?_
  refine lv_aload_nN hx hb dJ1_init_2 rfl (lv_at hl 2 rfl) ?_
  refine lv_iload_n hx hb dJ1_init_3 rfl (lv_at hl 3 rfl) ?_
  refine lv_iload hx hb dJ1_init_4 (lv_at hl 4 rfl) ?_
  refine zr_muNI (ws := [(oA, .inr (3, [.null, .null, .null, .null, .null, .int 0, .int 0]))]) (F := ()) (ff := fun t_1 _ => True) (wr := []) (w0 := [(oA, .inr (3, [.null, .null, .null, .null, .null, .int 0, .int 0]))]) (w1 := fun t_1 un1 => [(oA, .inr (3, [.null, .null, .null, .null, .null, .int 0, .int 0]))]) (wn := fun t_1 un1 => [(oA, .inr (3, [.null, .null, .null, .null, .null, .int 0, .int 0]))]) (perm_pos 1 [0] rfl (by decide) rfl) (fun _ _ => perm_pos 1 [0] rfl (by decide) rfl) ⟨hx, hb, hml, hown, hts⟩ (mt_cf_ThrR l G oA H.size) (cwI 4 hts (lw_meth q231) rfl rfl rfl (hts _ q137) (hts _ q229) (hts _ q230) rfl hd_J0_init_2.2 ⟨(Nat.le_of_ble_eq_true rfl), (Nat.le_of_ble_eq_true rfl)⟩) hP hD hS hA hK hE rfl hl.1 rfl (Nat.le_of_ble_eq_true rfl) dJ1_init_6 ⟨(Nat.le_of_ble_eq_true rfl), (Nat.le_of_ble_eq_true rfl)⟩ (fun t_1 un1 ht_1 hft_1 H locs hP hD hS _ => ?_)
  refine W.eq (g2 := F0 m 9 ls []) rfl ?_
  exact zr_nv (zAd []) hx hb hr hlocks hP hD hS dJ1_init_9 rfl rfl trivial
theorem hd_X3_init : yX3_init.cls = RX3 ∧ yX3_init.cls ≠ "java/lang/invoke/MethodHandle" ∧ yX3_init.cls ≠ "java/lang/invoke/VarHandle" ∧ (parseMethodDescriptor yX3_init.desc).map (fun d => d.parameters.length) = some 0 := by decide +kernel
set_option maxHeartbeats 4000000 in
set_option maxRecDepth 100000 in
theorem mt_cf_Refused (l : Launch) (G : zG) (oA : Nat) (sz : Nat) : Met l yX3_init (ws_ yX3_init cX3_init 1 none) (zR 4 0 0) (zPm G sz [.ref oA] [(oA, .inr (3, [.null, .null, .null, .null, .null, .int 0, .int 0]))]) (zQe G (fun (u : Nat → Nat) => True) (fun (u : Nat → Nat) => none) (fun (u : Nat → Nat) => [(oA, .inr (3, [.null, .null, .null, .null, .null, .int 0, .int 0]))]) (va_A [(oA, .inr (3, [.null, .null, .null, .null, .null, .int 0, .int 0]))] sz)) 0 0 (va_A [(oA, .inr (3, [.null, .null, .null, .null, .null, .int 0, .int 0]))] sz) := by
  refine zr_entW (by decide) (Nat.le_of_ble_eq_true rfl) ?_
  intro p e s m below meth c ⟨hx, hb, hr, hml, hown, hts, hlocks, hnm⟩ ls hl hP hK A hE hA hD hS
  have hown : s.vm.findClass RX3 = some m.cls := hown
  have hl : lv_has ls 1 [(0, .ref oA)] := hl
  obtain ⟨H, hH⟩ : ∃ H, H = s.heap := ⟨_, rfl⟩
  obtain ⟨locs, hlo⟩ : ∃ L : List Loc, L = [] := ⟨_, rfl⟩
  rw [← hH] at hP
  have hS : va_S A s.heap H locs := by rw [hH, hlo]; exact va_S.rf
  have hgo : W p l e (zR 4 0 0) s m ([.ref oA] : List Value).toArray below meth c H locs 0 0 (MQ below (zQe G (fun (u : Nat → Nat) => True) (fun (u : Nat → Nat) => none) (fun (u : Nat → Nat) => [(oA, .inr (3, [.null, .null, .null, .null, .null, .int 0, .int 0]))]) A) ([.ref oA] : List Value).toArray s 0 0 A) (F0 m 0 ls []) := ?_
  · rw [hH, hlo] at hgo; exact hgo
  clear hH hlo
  refine lv_aload_n hx hb dX3_init_0 rfl (lv_at hl 0 rfl) ?_
  refine lv_null hx hb dX3_init_1 ?_
  refine lv_null hx hb dX3_init_2 ?_
  refine lv_iconst (v := 0) hx hb dX3_init_3 (by decide) ?_
  refine lv_iconst (v := 0) hx hb dX3_init_4 (by decide) ?_
  refine zr_muNI (ws := [(oA, .inr (3, [.null, .null, .null, .null, .null, .int 0, .int 0]))]) (F := ()) (ff := fun t_1 _ => True) (wr := []) (w0 := [(oA, .inr (3, [.null, .null, .null, .null, .null, .int 0, .int 0]))]) (w1 := fun t_1 un1 => [(oA, .inr (3, [.null, .null, .null, .null, .null, .int 0, .int 0]))]) (wn := fun t_1 un1 => [(oA, .inr (3, [.null, .null, .null, .null, .null, .int 0, .int 0]))]) (perm_pos 1 [0] rfl (by decide) rfl) (fun _ _ => perm_pos 1 [0] rfl (by decide) rfl) ⟨hx, hb, hml, hown, hts⟩ (mt_cf_ExcR l G oA H.size) (cwI 4 hts (lw_meth q228) rfl rfl rfl (hts _ q138) (hts _ q266) (hts _ q227) rfl hd_J1_init.2 ⟨(Nat.le_of_ble_eq_true rfl), (Nat.le_of_ble_eq_true rfl)⟩) hP hD hS hA hK hE rfl hl.1 rfl (Nat.le_of_ble_eq_true rfl) dX3_init_5 ⟨(Nat.le_of_ble_eq_true rfl), (Nat.le_of_ble_eq_true rfl)⟩ (fun t_1 un1 ht_1 hft_1 H locs hP hD hS _ => ?_)
  refine W.eq (g2 := F0 m 8 ls []) rfl ?_
  exact zr_nv (zAd []) hx hb hr hlocks hP hD hS dX3_init_8 rfl rfl trivial
def qW_ (G : zG) (xa_refused : Nat) (q_v0 : Value) (q_v1 : Value) (q_v2 : Value) (q_v3 : Value) (q_v4 : Value) (q_v5 : Value) (q_why : Int32) : va_W := [(xa_refused, .inr (3, [q_v0, q_v1, q_v2, q_v3, q_v4, q_v5, .int q_why]))]
def qf_by (why : Int32) : Int32 :=
  why
theorem hd_X3_by : yX3_by.cls = RX3 ∧ yX3_by.cls ≠ "java/lang/invoke/MethodHandle" ∧ yX3_by.cls ≠ "java/lang/invoke/VarHandle" ∧ (parseMethodDescriptor yX3_by.desc).map (fun d => d.parameters.length) = some 1 := by decide +kernel
set_option maxHeartbeats 4000000 in
set_option maxRecDepth 100000 in
theorem mt_qf_by (l : Launch) (G : zG) (xa_refused : Nat) (q_v0 : Value) (q_v1 : Value) (q_v2 : Value) (q_v3 : Value) (q_v4 : Value) (q_v5 : Value) (q_why : Int32) (why : Int32) (sz : Nat) : Met l yX3_by (ws_ yX3_by cX3_by 2 (some (.object "WindowHill$Refused"))) (zR 1 0 0) (zPm G sz [.ref xa_refused, .int why] (qW_ G xa_refused q_v0 q_v1 q_v2 q_v3 q_v4 q_v5 q_why)) (zQm G (True) (some (.ref xa_refused)) (qW_ G xa_refused q_v0 q_v1 q_v2 q_v3 q_v4 q_v5 (qf_by why)) (va_A (qW_ G xa_refused q_v0 q_v1 q_v2 q_v3 q_v4 q_v5 q_why) sz)) 0 0 (va_A (qW_ G xa_refused q_v0 q_v1 q_v2 q_v3 q_v4 q_v5 q_why) sz) := by
  refine zr_entM (by decide) (Nat.le_of_ble_eq_true rfl) ?_
  intro p e s m below meth c ⟨hx, hb, hr, hml, hown, hts, hlocks, hnm⟩ ls hl hP hK A hE hA hD hS
  have hown : s.vm.findClass RX3 = some m.cls := hown
  have hl : lv_has ls 2 [(0, .ref xa_refused), (1, .int why)] := hl
  obtain ⟨H, hH⟩ : ∃ H, H = s.heap := ⟨_, rfl⟩
  obtain ⟨locs, hlo⟩ : ∃ L : List Loc, L = [] := ⟨_, rfl⟩
  rw [← hH] at hP
  have hS : va_S A s.heap H locs := by rw [hH, hlo]; exact va_S.rf
  have hgo : W p l e (zR 1 0 0) s m ([.ref xa_refused, .int why] : List Value).toArray below meth c H locs 0 0 (MQ below (zQm G (True) (some (.ref xa_refused)) (qW_ G xa_refused q_v0 q_v1 q_v2 q_v3 q_v4 q_v5 (qf_by why)) A) ([.ref xa_refused, .int why] : List Value).toArray s 0 0 A) (F0 m 0 ls []) := ?_
  · rw [hH, hlo] at hgo; exact hgo
  clear hH hlo
  refine lv_aload_n hx hb dX3_by_0 rfl (lv_at hl 0 rfl) ?_
  refine lv_iload_n hx hb dX3_by_1 rfl (lv_at hl 1 rfl) ?_
  refine va_put (D := G.1) (ci := 3) (v := .int why) (ty := .int) (C := RX3) (T := TX3) (N := 7) hx hb hts in_X3 tyX3 tyX3_ok nmX3 hown hK.1 hP hD hS 0 rfl rfl 6 (Nat.le_of_ble_eq_true rfl) (hts _ q267) (fun _ h => h) rfl (tyX3_ok 6 (Nat.le_of_ble_eq_true rfl)) rfl rfl (Nat.le_of_ble_eq_true rfl) dX3_by_2 (fun H locs hP hD hS => ?_)
  have hP : va_P G.1 zcl (qW_ G xa_refused q_v0 q_v1 q_v2 q_v3 q_v4 q_v5 why) H := hP
  have hD : va_D A (qW_ G xa_refused q_v0 q_v1 q_v2 q_v3 q_v4 q_v5 why) := hD
  refine lv_aload_n hx hb dX3_by_5 rfl (lv_at hl 0 rfl) ?_
  have e_ : qf_by why = why := by rw [qf_by]
  exact zr_ma hx hb hr hlocks hP hD hS dX3_by_6 rfl (by rw [e_]) trivial
def xf_none (q_why : Int32) : Int32 × Int32 :=
  ((-1), q_why)
theorem hd_X0_none : yX0_none.cls = RX0 ∧ yX0_none.cls ≠ "java/lang/invoke/MethodHandle" ∧ yX0_none.cls ≠ "java/lang/invoke/VarHandle" ∧ (parseMethodDescriptor yX0_none.desc).map (fun d => d.parameters.length) = some 1 := by decide +kernel
set_option maxHeartbeats 4000000 in
set_option maxRecDepth 100000 in
theorem mt_xf_none (l : Launch) (G : zG) (xA : Nat) (xa_trays : Nat) (xa_tape : Nat) (x_taped : Int32) (x_faultKind : Int32) (x_faultAt : Int32) (xa_bad : Nat) (xa_refused : Nat) (x_status : Int32) (x_above : Int64) (x_under : Int64) (nA : Nat) (xa_marks : Nat) (x_markMany : Int32) (xa_pictures : Nat) (x_lead : Int32) (x_round : Int32) (xa_ways : Nat) (x_bestSet : Int32) (x_bestMany : Int32) (x_left : Int32) (xa_aside : Nat) (xa_last : Nat) (x_hasLived : Bool) (uA : Nat) (n_year : Option Nat) (q_v0 : Value) (q_v1 : Value) (q_v2 : Value) (q_v3 : Value) (q_v4 : Value) (q_v5 : Value) (q_why : Int32) (sz : Nat) : Met l yX0_none (ws_ yX0_none cX0_none 2 (some .int)) (zR 1 0 0) (zPm G sz [.ref xA, .ref xa_refused] ((xA_ G xA xa_trays xa_tape x_taped x_faultKind x_faultAt xa_bad xa_refused x_status x_above x_under nA xa_marks x_markMany xa_pictures x_lead x_round xa_ways x_bestSet x_bestMany x_left xa_aside xa_last x_hasLived uA n_year) ++ (qW_ G xa_refused q_v0 q_v1 q_v2 q_v3 q_v4 q_v5 q_why))) (zQm G (True) (some (.int ((xf_none q_why).1))) ((xA_ G xA xa_trays xa_tape x_taped x_faultKind x_faultAt xa_bad xa_refused ((xf_none q_why).2) x_above x_under nA xa_marks x_markMany xa_pictures x_lead x_round xa_ways x_bestSet x_bestMany x_left xa_aside xa_last x_hasLived uA n_year) ++ (qW_ G xa_refused q_v0 q_v1 q_v2 q_v3 q_v4 q_v5 q_why)) (va_A ((xA_ G xA xa_trays xa_tape x_taped x_faultKind x_faultAt xa_bad xa_refused x_status x_above x_under nA xa_marks x_markMany xa_pictures x_lead x_round xa_ways x_bestSet x_bestMany x_left xa_aside xa_last x_hasLived uA n_year) ++ (qW_ G xa_refused q_v0 q_v1 q_v2 q_v3 q_v4 q_v5 q_why)) sz)) 0 0 (va_A ((xA_ G xA xa_trays xa_tape x_taped x_faultKind x_faultAt xa_bad xa_refused x_status x_above x_under nA xa_marks x_markMany xa_pictures x_lead x_round xa_ways x_bestSet x_bestMany x_left xa_aside xa_last x_hasLived uA n_year) ++ (qW_ G xa_refused q_v0 q_v1 q_v2 q_v3 q_v4 q_v5 q_why)) sz) := by
  refine zr_entM (by decide) (Nat.le_of_ble_eq_true rfl) ?_
  intro p e s m below meth c ⟨hx, hb, hr, hml, hown, hts, hlocks, hnm⟩ ls hl hP hK A hE hA hD hS
  have hown : s.vm.findClass RX0 = some m.cls := hown
  have hl : lv_has ls 2 [(0, .ref xA), (1, .ref xa_refused)] := hl
  obtain ⟨H, hH⟩ : ∃ H, H = s.heap := ⟨_, rfl⟩
  obtain ⟨locs, hlo⟩ : ∃ L : List Loc, L = [] := ⟨_, rfl⟩
  rw [← hH] at hP
  have hS : va_S A s.heap H locs := by rw [hH, hlo]; exact va_S.rf
  have hgo : W p l e (zR 1 0 0) s m ([.ref xA, .ref xa_refused] : List Value).toArray below meth c H locs 0 0 (MQ below (zQm G (True) (some (.int ((xf_none q_why).1))) ((xA_ G xA xa_trays xa_tape x_taped x_faultKind x_faultAt xa_bad xa_refused ((xf_none q_why).2) x_above x_under nA xa_marks x_markMany xa_pictures x_lead x_round xa_ways x_bestSet x_bestMany x_left xa_aside xa_last x_hasLived uA n_year) ++ (qW_ G xa_refused q_v0 q_v1 q_v2 q_v3 q_v4 q_v5 q_why)) A) ([.ref xA, .ref xa_refused] : List Value).toArray s 0 0 A) (F0 m 0 ls []) := ?_
  · rw [hH, hlo] at hgo; exact hgo
  clear hH hlo
  refine lv_aload_n hx hb dX0_none_0 rfl (lv_at hl 0 rfl) ?_
  refine lv_aload_n hx hb dX0_none_1 rfl (lv_at hl 1 rfl) ?_
  refine va_getN (D := G.1) (ci := 3) (v := .int q_why) (C := RX3) (T := TX3) (N := 7) hx hb hts in_X3 hown hK.1 hP 2 rfl rfl 6 (Nat.le_of_ble_eq_true rfl) ((hK.2.1.1 _ (List.mem_of_getElem? (i := 0) rfl)).use rfl) (fun _ h => h) rfl dX0_none_2 ?_
  refine va_put (D := G.1) (ci := 0) (v := .int q_why) (ty := .int) (C := RX0) (T := TX0) (N := 23) hx hb hts in_X0 tyX0 tyX0_ok nmX0 hown hK.1 hP hD hS 0 rfl rfl 7 (Nat.le_of_ble_eq_true rfl) (hts _ q432) (fun _ h => h) rfl (tyX0_ok 7 (Nat.le_of_ble_eq_true rfl)) rfl rfl (Nat.le_of_ble_eq_true rfl) dX0_none_5 (fun H locs hP hD hS => ?_)
  have hP : va_P G.1 zcl ((xA_ G xA xa_trays xa_tape x_taped x_faultKind x_faultAt xa_bad xa_refused q_why x_above x_under nA xa_marks x_markMany xa_pictures x_lead x_round xa_ways x_bestSet x_bestMany x_left xa_aside xa_last x_hasLived uA n_year) ++ (qW_ G xa_refused q_v0 q_v1 q_v2 q_v3 q_v4 q_v5 q_why)) H := hP
  have hD : va_D A ((xA_ G xA xa_trays xa_tape x_taped x_faultKind x_faultAt xa_bad xa_refused q_why x_above x_under nA xa_marks x_markMany xa_pictures x_lead x_round xa_ways x_bestSet x_bestMany x_left xa_aside xa_last x_hasLived uA n_year) ++ (qW_ G xa_refused q_v0 q_v1 q_v2 q_v3 q_v4 q_v5 q_why)) := hD
  refine lv_iconst (v := (-1)) hx hb dX0_none_8 (by decide) ?_
  have e_ : xf_none q_why = ((-1), q_why) := by rw [xf_none]
  exact zr_mi hx hb hr hlocks hP hD hS dX0_none_9 (by rw [e_])  (by rw [e_]) trivial
def xf_no (q_why : Int32) : Bool × Int32 :=
  (false, q_why)
theorem hd_X0_no : yX0_no.cls = RX0 ∧ yX0_no.cls ≠ "java/lang/invoke/MethodHandle" ∧ yX0_no.cls ≠ "java/lang/invoke/VarHandle" ∧ (parseMethodDescriptor yX0_no.desc).map (fun d => d.parameters.length) = some 1 := by decide +kernel
set_option maxHeartbeats 4000000 in
set_option maxRecDepth 100000 in
theorem mt_xf_no (l : Launch) (G : zG) (xA : Nat) (xa_trays : Nat) (xa_tape : Nat) (x_taped : Int32) (x_faultKind : Int32) (x_faultAt : Int32) (xa_bad : Nat) (xa_refused : Nat) (x_status : Int32) (x_above : Int64) (x_under : Int64) (nA : Nat) (xa_marks : Nat) (x_markMany : Int32) (xa_pictures : Nat) (x_lead : Int32) (x_round : Int32) (xa_ways : Nat) (x_bestSet : Int32) (x_bestMany : Int32) (x_left : Int32) (xa_aside : Nat) (xa_last : Nat) (x_hasLived : Bool) (uA : Nat) (n_year : Option Nat) (q_v0 : Value) (q_v1 : Value) (q_v2 : Value) (q_v3 : Value) (q_v4 : Value) (q_v5 : Value) (q_why : Int32) (sz : Nat) : Met l yX0_no (ws_ yX0_no cX0_no 2 (some .boolean)) (zR 1 0 0) (zPm G sz [.ref xA, .ref xa_refused] ((xA_ G xA xa_trays xa_tape x_taped x_faultKind x_faultAt xa_bad xa_refused x_status x_above x_under nA xa_marks x_markMany xa_pictures x_lead x_round xa_ways x_bestSet x_bestMany x_left xa_aside xa_last x_hasLived uA n_year) ++ (qW_ G xa_refused q_v0 q_v1 q_v2 q_v3 q_v4 q_v5 q_why))) (zQm G (True) (some (.int (zb ((xf_no q_why).1)))) ((xA_ G xA xa_trays xa_tape x_taped x_faultKind x_faultAt xa_bad xa_refused ((xf_no q_why).2) x_above x_under nA xa_marks x_markMany xa_pictures x_lead x_round xa_ways x_bestSet x_bestMany x_left xa_aside xa_last x_hasLived uA n_year) ++ (qW_ G xa_refused q_v0 q_v1 q_v2 q_v3 q_v4 q_v5 q_why)) (va_A ((xA_ G xA xa_trays xa_tape x_taped x_faultKind x_faultAt xa_bad xa_refused x_status x_above x_under nA xa_marks x_markMany xa_pictures x_lead x_round xa_ways x_bestSet x_bestMany x_left xa_aside xa_last x_hasLived uA n_year) ++ (qW_ G xa_refused q_v0 q_v1 q_v2 q_v3 q_v4 q_v5 q_why)) sz)) 0 0 (va_A ((xA_ G xA xa_trays xa_tape x_taped x_faultKind x_faultAt xa_bad xa_refused x_status x_above x_under nA xa_marks x_markMany xa_pictures x_lead x_round xa_ways x_bestSet x_bestMany x_left xa_aside xa_last x_hasLived uA n_year) ++ (qW_ G xa_refused q_v0 q_v1 q_v2 q_v3 q_v4 q_v5 q_why)) sz) := by
  refine zr_entM (by decide) (Nat.le_of_ble_eq_true rfl) ?_
  intro p e s m below meth c ⟨hx, hb, hr, hml, hown, hts, hlocks, hnm⟩ ls hl hP hK A hE hA hD hS
  have hown : s.vm.findClass RX0 = some m.cls := hown
  have hl : lv_has ls 2 [(0, .ref xA), (1, .ref xa_refused)] := hl
  obtain ⟨H, hH⟩ : ∃ H, H = s.heap := ⟨_, rfl⟩
  obtain ⟨locs, hlo⟩ : ∃ L : List Loc, L = [] := ⟨_, rfl⟩
  rw [← hH] at hP
  have hS : va_S A s.heap H locs := by rw [hH, hlo]; exact va_S.rf
  have hgo : W p l e (zR 1 0 0) s m ([.ref xA, .ref xa_refused] : List Value).toArray below meth c H locs 0 0 (MQ below (zQm G (True) (some (.int (zb ((xf_no q_why).1)))) ((xA_ G xA xa_trays xa_tape x_taped x_faultKind x_faultAt xa_bad xa_refused ((xf_no q_why).2) x_above x_under nA xa_marks x_markMany xa_pictures x_lead x_round xa_ways x_bestSet x_bestMany x_left xa_aside xa_last x_hasLived uA n_year) ++ (qW_ G xa_refused q_v0 q_v1 q_v2 q_v3 q_v4 q_v5 q_why)) A) ([.ref xA, .ref xa_refused] : List Value).toArray s 0 0 A) (F0 m 0 ls []) := ?_
  · rw [hH, hlo] at hgo; exact hgo
  clear hH hlo
  refine lv_aload_n hx hb dX0_no_0 rfl (lv_at hl 0 rfl) ?_
  refine lv_aload_n hx hb dX0_no_1 rfl (lv_at hl 1 rfl) ?_
  refine va_getN (D := G.1) (ci := 3) (v := .int q_why) (C := RX3) (T := TX3) (N := 7) hx hb hts in_X3 hown hK.1 hP 2 rfl rfl 6 (Nat.le_of_ble_eq_true rfl) ((hK.2.1.1 _ (List.mem_of_getElem? (i := 0) rfl)).use rfl) (fun _ h => h) rfl dX0_no_2 ?_
  refine va_put (D := G.1) (ci := 0) (v := .int q_why) (ty := .int) (C := RX0) (T := TX0) (N := 23) hx hb hts in_X0 tyX0 tyX0_ok nmX0 hown hK.1 hP hD hS 0 rfl rfl 7 (Nat.le_of_ble_eq_true rfl) (hts _ q432) (fun _ h => h) rfl (tyX0_ok 7 (Nat.le_of_ble_eq_true rfl)) rfl rfl (Nat.le_of_ble_eq_true rfl) dX0_no_5 (fun H locs hP hD hS => ?_)
  have hP : va_P G.1 zcl ((xA_ G xA xa_trays xa_tape x_taped x_faultKind x_faultAt xa_bad xa_refused q_why x_above x_under nA xa_marks x_markMany xa_pictures x_lead x_round xa_ways x_bestSet x_bestMany x_left xa_aside xa_last x_hasLived uA n_year) ++ (qW_ G xa_refused q_v0 q_v1 q_v2 q_v3 q_v4 q_v5 q_why)) H := hP
  have hD : va_D A ((xA_ G xA xa_trays xa_tape x_taped x_faultKind x_faultAt xa_bad xa_refused q_why x_above x_under nA xa_marks x_markMany xa_pictures x_lead x_round xa_ways x_bestSet x_bestMany x_left xa_aside xa_last x_hasLived uA n_year) ++ (qW_ G xa_refused q_v0 q_v1 q_v2 q_v3 q_v4 q_v5 q_why)) := hD
  refine lv_iconst (v := 0) hx hb dX0_no_8 (by decide) ?_
  have e_ : xf_no q_why = (false, q_why) := by rw [xf_no]
  exact zr_mz hx hb hr hlocks hP hD hS dX0_no_9 rfl (by rw [e_]; rfl) (by rw [e_]) trivial
def xf_want (q_why : Int32) (is_ : Bool) (why : Int32) : Bool × Int32 :=
  (if is_ = true then
    (true, q_why)
  else
    zlet (qf_by why) (fun t_2 =>
    (false, t_2)))
theorem hd_X0_want : yX0_want.cls = RX0 ∧ yX0_want.cls ≠ "java/lang/invoke/MethodHandle" ∧ yX0_want.cls ≠ "java/lang/invoke/VarHandle" ∧ (parseMethodDescriptor yX0_want.desc).map (fun d => d.parameters.length) = some 2 := by decide +kernel
set_option maxHeartbeats 4000000 in
set_option maxRecDepth 100000 in
theorem mt_xf_want (l : Launch) (G : zG) (xA : Nat) (xa_trays : Nat) (xa_tape : Nat) (x_taped : Int32) (x_faultKind : Int32) (x_faultAt : Int32) (xa_bad : Nat) (xa_refused : Nat) (x_status : Int32) (x_above : Int64) (x_under : Int64) (nA : Nat) (xa_marks : Nat) (x_markMany : Int32) (xa_pictures : Nat) (x_lead : Int32) (x_round : Int32) (xa_ways : Nat) (x_bestSet : Int32) (x_bestMany : Int32) (x_left : Int32) (xa_aside : Nat) (xa_last : Nat) (x_hasLived : Bool) (uA : Nat) (n_year : Option Nat) (q_v0 : Value) (q_v1 : Value) (q_v2 : Value) (q_v3 : Value) (q_v4 : Value) (q_v5 : Value) (q_why : Int32) (is_ : Bool) (why : Int32) (sz : Nat) : vx_Met l yX0_want (ws_ yX0_want cX0_want 3 none) (zR 2 0 0) (zPm G sz [.ref xA, .int (zb is_), .int why] ((xA_ G xA xa_trays xa_tape x_taped x_faultKind x_faultAt xa_bad xa_refused x_status x_above x_under nA xa_marks x_markMany xa_pictures x_lead x_round xa_ways x_bestSet x_bestMany x_left xa_aside xa_last x_hasLived uA n_year) ++ (qW_ G xa_refused q_v0 q_v1 q_v2 q_v3 q_v4 q_v5 q_why))) (zQm G ((xf_want q_why is_ why).1 = true ∧ True) none ((xA_ G xA xa_trays xa_tape x_taped x_faultKind x_faultAt xa_bad xa_refused x_status x_above x_under nA xa_marks x_markMany xa_pictures x_lead x_round xa_ways x_bestSet x_bestMany x_left xa_aside xa_last x_hasLived uA n_year) ++ (qW_ G xa_refused q_v0 q_v1 q_v2 q_v3 q_v4 q_v5 ((xf_want q_why is_ why).2))) (va_A ((xA_ G xA xa_trays xa_tape x_taped x_faultKind x_faultAt xa_bad xa_refused x_status x_above x_under nA xa_marks x_markMany xa_pictures x_lead x_round xa_ways x_bestSet x_bestMany x_left xa_aside xa_last x_hasLived uA n_year) ++ (qW_ G xa_refused q_v0 q_v1 q_v2 q_v3 q_v4 q_v5 q_why)) sz)) (zXx G ((xf_want q_why is_ why).1) (True) RX3 xa_refused ((xA_ G xA xa_trays xa_tape x_taped x_faultKind x_faultAt xa_bad xa_refused x_status x_above x_under nA xa_marks x_markMany xa_pictures x_lead x_round xa_ways x_bestSet x_bestMany x_left xa_aside xa_last x_hasLived uA n_year) ++ (qW_ G xa_refused q_v0 q_v1 q_v2 q_v3 q_v4 q_v5 ((xf_want q_why is_ why).2))) (va_A ((xA_ G xA xa_trays xa_tape x_taped x_faultKind x_faultAt xa_bad xa_refused x_status x_above x_under nA xa_marks x_markMany xa_pictures x_lead x_round xa_ways x_bestSet x_bestMany x_left xa_aside xa_last x_hasLived uA n_year) ++ (qW_ G xa_refused q_v0 q_v1 q_v2 q_v3 q_v4 q_v5 q_why)) sz)) 0 0 (va_A ((xA_ G xA xa_trays xa_tape x_taped x_faultKind x_faultAt xa_bad xa_refused x_status x_above x_under nA xa_marks x_markMany xa_pictures x_lead x_round xa_ways x_bestSet x_bestMany x_left xa_aside xa_last x_hasLived uA n_year) ++ (qW_ G xa_refused q_v0 q_v1 q_v2 q_v3 q_v4 q_v5 q_why)) sz) := by
  refine zr_entX (by decide) (Nat.le_of_ble_eq_true rfl) ?_
  intro p e s m below meth c ⟨hx, hb, hr, hml, hown, hts, hlocks, hnm⟩ hout ls hl hP hK A hE hA hD hS
  have hown : s.vm.findClass RX0 = some m.cls := hown
  have hl : lv_has ls 3 [(0, .ref xA), (1, .int (zb is_)), (2, .int why)] := hl
  obtain ⟨H, hH⟩ : ∃ H, H = s.heap := ⟨_, rfl⟩
  obtain ⟨locs, hlo⟩ : ∃ L : List Loc, L = [] := ⟨_, rfl⟩
  rw [← hH] at hP
  have hS : va_S A s.heap H locs := by rw [hH, hlo]; exact va_S.rf
  have hgo : W p l e (zR 2 0 0) s m ([.ref xA, .int (zb is_), .int why] : List Value).toArray below meth c H locs 0 0 (vx_MQ below (zQm G ((xf_want q_why is_ why).1 = true ∧ True) none ((xA_ G xA xa_trays xa_tape x_taped x_faultKind x_faultAt xa_bad xa_refused x_status x_above x_under nA xa_marks x_markMany xa_pictures x_lead x_round xa_ways x_bestSet x_bestMany x_left xa_aside xa_last x_hasLived uA n_year) ++ (qW_ G xa_refused q_v0 q_v1 q_v2 q_v3 q_v4 q_v5 ((xf_want q_why is_ why).2))) A) (zXx G ((xf_want q_why is_ why).1) (True) RX3 xa_refused ((xA_ G xA xa_trays xa_tape x_taped x_faultKind x_faultAt xa_bad xa_refused x_status x_above x_under nA xa_marks x_markMany xa_pictures x_lead x_round xa_ways x_bestSet x_bestMany x_left xa_aside xa_last x_hasLived uA n_year) ++ (qW_ G xa_refused q_v0 q_v1 q_v2 q_v3 q_v4 q_v5 ((xf_want q_why is_ why).2))) A) ([.ref xA, .int (zb is_), .int why] : List Value).toArray s 0 0 A) (F0 m 0 ls []) := ?_
  · rw [hH, hlo] at hgo; exact hgo
  clear hH hlo
  refine lv_iload_n hx hb dX0_want_0 rfl (lv_at hl 1 rfl) ?_
  refine zr_neB is_ (tgt := 13) hx hb dX0_want_1 (by decide) (fun c_1 => ?_) (fun c_1 => ?_)
  · have e_ : xf_want q_why is_ why = (true, q_why) := by rw [xf_want, if_pos c_1]
    refine vx_ret ?_
    exact zr_mv hx hb hr hlocks hP hD hS dX0_want_13 rfl (by rw [e_]) (by rw [e_]; exact ⟨rfl, trivial⟩)
  · refine lv_aload_n hx hb dX0_want_4 rfl (lv_at hl 0 rfl) ?_
    refine va_get (D := G.1) (ci := 0) (v := .ref xa_refused) (C := RX0) (T := TX0) (N := 23) hx hb hts in_X0 hown hK.1 hP 0 rfl rfl 6 (Nat.le_of_ble_eq_true rfl) (hts _ q431) (fun _ h => h) rfl dX0_want_5 ?_
    refine lv_iload_n hx hb dX0_want_8 rfl (lv_at hl 2 rfl) ?_
    refine zr_muVs (F := qf_by why) (ff := fun t_2 => True) (rr := fun t_2 => some (.ref xa_refused)) (w1 := fun t_2 => (qW_ G xa_refused q_v0 q_v1 q_v2 q_v3 q_v4 q_v5 t_2)) (wn := fun t_2 => ((xA_ G xA xa_trays xa_tape x_taped x_faultKind x_faultAt xa_bad xa_refused x_status x_above x_under nA xa_marks x_markMany xa_pictures x_lead x_round xa_ways x_bestSet x_bestMany x_left xa_aside xa_last x_hasLived uA n_year) ++ (qW_ G xa_refused q_v0 q_v1 q_v2 q_v3 q_v4 q_v5 t_2))) (wr := [(xA, .inr (0, [.ref xa_trays, .ref xa_tape, .int x_taped, .int x_faultKind, .int x_faultAt, .ref xa_bad, .ref xa_refused, .int x_status, .long x_above, .long x_under, .ref nA, .ref xa_marks, .int x_markMany, .ref xa_pictures, .int x_lead, .int x_round, .ref xa_ways, .int x_bestSet, .int x_bestMany, .int x_left, .ref xa_aside, .ref xa_last, .int (zb x_hasLived)])), (nA, .inr (4, [.ref uA, va_rf n_year]))]) [2] [0, 1] [0, 1, 2] rfl rfl rfl rfl (by decide) rfl (fun _ => rfl) ⟨hx, hb, hml, hown, hts⟩ (mt_qf_by l G xa_refused q_v0 q_v1 q_v2 q_v3 q_v4 q_v5 q_why why H.size) (cwV 1 hts (lw_V q544 q545 q546 q140 q547) rfl rfl rfl hd_X3_by ⟨(Nat.le_of_ble_eq_true rfl), (Nat.le_of_ble_eq_true rfl)⟩) hP hD hS hA hK hE 3 rfl rfl rfl hl.1 rfl (Nat.le_of_ble_eq_true rfl) dX0_want_9 ⟨Nat.le_refl _, Nat.le_refl _⟩ (fun t_2 ht_2 hft_2 H locs hP hD hS _ => ?_)
    refine W.eq (g2 := F0 m 12 ls [.ref xa_refused]) rfl ?_
    refine vx_athrow hx hb dX0_want_12 ?_
    have e_ : xf_want q_why is_ why = (false, t_2) := by rw [xf_want, if_neg c_1, zlet_eq ht_2]
    exact zr_xthrow hout hlocks hK hP hD hS 2 3 rfl rfl (by rw [e_]) (by rw [e_]) (by first | exact trivial | (rw [e_]; exact trivial))
