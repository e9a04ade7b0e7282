theorem hd_X10_init : yX10_init.cls = RX10 ∧ yX10_init.cls ≠ "java/lang/invoke/MethodHandle" ∧ yX10_init.cls ≠ "java/lang/invoke/VarHandle" ∧ (parseMethodDescriptor yX10_init.desc).map (fun d => d.parameters.length) = some 0 := by decide +kernel
set_option maxHeartbeats 4000000 in
set_option maxRecDepth 100000 in
theorem mt_cf_BlockL (l : Launch) (G : zG) (oA : Nat) (sz : Nat) : Met l yX10_init (ws_ yX10_init cX10_init 1 none) (zR 3 1 4) (zPm G sz [.ref oA] [(oA, .inr (9, [.null, .int 0, .int 0]))]) (zQe G (fun (u : Nat → Nat) => True) (fun (u : Nat → Nat) => none) (fun (u : Nat → Nat) => [(oA, .inr (9, [.ref (u 0), .int 0, .int 0])), ((u 0), .inl (G.2 6, 4, .inr (.inr (.inr (.inr (fun _ => none))))))]) (va_A [(oA, .inr (9, [.null, .int 0, .int 0]))] sz)) 1 4 (va_A [(oA, .inr (9, [.null, .int 0, .int 0]))] sz) := by
  refine zr_entW (by decide) (Nat.le_of_ble_eq_true rfl) ?_
  intro p e s m below meth c ⟨hx, hb, hr, hml, hown, hts, hlocks, hnm⟩ ls hl hP hK A hE hA hD hS
  have hown : s.vm.findClass RX10 = some m.cls := hown
  have hl : lv_has ls 1 [(0, .ref oA)] := hl
  obtain ⟨H, hH⟩ : ∃ H, H = s.heap := ⟨_, rfl⟩
  obtain ⟨locs, hlo⟩ : ∃ L : List Loc, L = [] := ⟨_, rfl⟩
  rw [← hH] at hP
  have hS : va_S A s.heap H locs := by rw [hH, hlo]; exact va_S.rf
  have hgo : W p l e (zR 3 1 4) s m ([.ref oA] : List Value).toArray below meth c H locs 0 0 (MQ below (zQe G (fun (u : Nat → Nat) => True) (fun (u : Nat → Nat) => none) (fun (u : Nat → Nat) => [(oA, .inr (9, [.ref (u 0), .int 0, .int 0])), ((u 0), .inl (G.2 6, 4, .inr (.inr (.inr (.inr (fun _ => none))))))]) A) ([.ref oA] : List Value).toArray s 1 4 A) (F0 m 0 ls []) := ?_
  · rw [hH, hlo] at hgo; exact hgo
  clear hH hlo
  refine lv_aload_n hx hb dX10_init_0 rfl (lv_at hl 0 rfl) ?_
  refine zr_muNIN (ws := [(oA, .inr (9, [.null, .int 0, .int 0]))]) (F := ()) (ff := fun t_1 _ => True) (wr := [(oA, .inr (9, [.null, .int 0, .int 0]))]) (w0 := []) (w1 := fun t_1 un1 => []) (wn := fun t_1 un1 => [(oA, .inr (9, [.null, .int 0, .int 0]))]) (perm_pos 1 [0] rfl (by decide) rfl) (fun _ _ => perm_pos 1 [0] rfl (by decide) rfl) ⟨hx, hb, hml, hown, hts⟩ (mt_cf_Step l G oA H.size) ⟨va_cnB 0 hts (lw_meth q877) rfl rfl rfl (hK.2.1.2.1 _ (List.mem_of_getElem? (i := 5) rfl)) (hts _ q157) hd_X9_init.2 ⟨(Nat.le_of_ble_eq_true rfl), (Nat.le_of_ble_eq_true rfl)⟩, rfl, hts _ q876⟩ hP hD hS hA hK hE rfl hl.1 rfl (Nat.le_of_ble_eq_true rfl) dX10_init_1 ⟨(Nat.le_of_ble_eq_true rfl), (Nat.le_of_ble_eq_true rfl)⟩ (fun t_1 un1 ht_1 hft_1 H locs hP hD hS _ => ?_)
  refine W.eq (g2 := F0 m 4 ls []) rfl ?_
  refine lv_aload_n hx hb dX10_init_4 rfl (lv_at hl 0 rfl) ?_
  refine lv_iconst (v := 4) hx hb dX10_init_5 (by decide) ?_
  refine zr_newq (N' := 4) 6 hx hb hown (hts _ q879) (hK.2.1.2.2.1 "WindowHill$Step" (by decide)) rfl hK hP hD hS hA (by decide) (by decide) (Nat.le_of_ble_eq_true rfl) (Nat.le_of_ble_eq_true rfl) (Nat.le_of_ble_eq_true rfl) dX10_init_6 (fun qn1 H hP hD hS => ?_)
  have hP : va_P G.1 zcl [(oA, .inr (9, [.null, .int 0, .int 0])), (qn1, .inl (G.2 6, 4, .inr (.inr (.inr (.inr (fun _ => none))))))] H := hP
  have hD : va_D A [(oA, .inr (9, [.null, .int 0, .int 0])), (qn1, .inl (G.2 6, 4, .inr (.inr (.inr (.inr (fun _ => none))))))] := hD
  refine va_put (D := G.1) (ci := 9) (v := .ref qn1) (ty := (.array (.object "WindowHill$Step"))) (C := RX11) (T := TX11) (N := 3) hx hb hts in_X11 tyX11 tyX11_ok nmX11 hown hK.1 hP hD hS 0 rfl rfl 0 (Nat.le_of_ble_eq_true rfl) (hts _ q882) (fun _ h => h) rfl (tyX11_ok 0 (Nat.le_of_ble_eq_true rfl)) rfl rfl (Nat.le_of_ble_eq_true rfl) dX10_init_9 (fun H locs hP hD hS => ?_)
  have hP : va_P G.1 zcl [(oA, .inr (9, [.ref qn1, .int 0, .int 0])), (qn1, .inl (G.2 6, 4, .inr (.inr (.inr (.inr (fun _ => none))))))] H := hP
  have hD : va_D A [(oA, .inr (9, [.ref qn1, .int 0, .int 0])), (qn1, .inl (G.2 6, 4, .inr (.inr (.inr (.inr (fun _ => none))))))] := hD
  exact zr_nv (zAd [qn1]) hx hb hr hlocks hP hD hS dX10_init_12 rfl rfl trivial
theorem hd_X11_init : yX11_init.cls = RX11 ∧ yX11_init.cls ≠ "java/lang/invoke/MethodHandle" ∧ yX11_init.cls ≠ "java/lang/invoke/VarHandle" ∧ (parseMethodDescriptor yX11_init.desc).map (fun d => d.parameters.length) = some 1 := by decide +kernel
set_option maxHeartbeats 4000000 in
set_option maxRecDepth 100000 in
theorem mt_cf_Loop (l : Launch) (G : zG) (oA : Nat) (times : Int32) (sz : Nat) : Met l yX11_init (ws_ yX11_init cX11_init 2 none) (zR 4 1 4) (zPm G sz [.ref oA, .int times] [(oA, .inr (9, [.null, .int 0, .int 0]))]) (zQe G (fun (u : Nat → Nat) => True) (fun (u : Nat → Nat) => none) (fun (u : Nat → Nat) => [(oA, .inr (9, [.ref (u 0), .int 0, .int times])), (u 0, .inl (G.2 6, 4, .inr (.inr (.inr (.inr (fun _ => none))))))]) (va_A [(oA, .inr (9, [.null, .int 0, .int 0]))] sz)) 1 4 (va_A [(oA, .inr (9, [.null, .int 0, .int 0]))] sz) := by
  refine zr_entW (by decide) (Nat.le_of_ble_eq_true rfl) ?_
  intro p e s m below meth c ⟨hx, hb, hr, hml, hown, hts, hlocks, hnm⟩ ls hl hP hK A hE hA hD hS
  have hown : s.vm.findClass RX11 = some m.cls := hown
  have hl : lv_has ls 2 [(0, .ref oA), (1, .int times)] := hl
  obtain ⟨H, hH⟩ : ∃ H, H = s.heap := ⟨_, rfl⟩
  obtain ⟨locs, hlo⟩ : ∃ L : List Loc, L = [] := ⟨_, rfl⟩
  rw [← hH] at hP
  have hS : va_S A s.heap H locs := by rw [hH, hlo]; exact va_S.rf
  have hgo : W p l e (zR 4 1 4) s m ([.ref oA, .int times] : List Value).toArray below meth c H locs 0 0 (MQ below (zQe G (fun (u : Nat → Nat) => True) (fun (u : Nat → Nat) => none) (fun (u : Nat → Nat) => [(oA, .inr (9, [.ref (u 0), .int 0, .int times])), (u 0, .inl (G.2 6, 4, .inr (.inr (.inr (.inr (fun _ => none))))))]) A) ([.ref oA, .int times] : List Value).toArray s 1 4 A) (F0 m 0 ls []) := ?_
  · rw [hH, hlo] at hgo; exact hgo
  clear hH hlo
  refine lv_aload_n hx hb dX11_init_0 rfl (lv_at hl 0 rfl) ?_
  refine zr_muNIN (ws := [(oA, .inr (9, [.null, .int 0, .int 0]))]) (F := ()) (ff := fun t_1 _ => True) (wr := []) (w0 := [(oA, .inr (9, [.null, .int 0, .int 0]))]) (w1 := fun t_1 un1 => [(oA, .inr (9, [.ref (un1 0), .int 0, .int 0])), ((un1 0), .inl (G.2 6, 4, .inr (.inr (.inr (.inr (fun _ => none))))))]) (wn := fun t_1 un1 => [(oA, .inr (9, [.ref (un1 0), .int 0, .int 0])), (un1 0, .inl (G.2 6, 4, .inr (.inr (.inr (.inr (fun _ => none))))))]) (perm_pos 1 [0] rfl (by decide) rfl) (fun _ _ => perm_pos 2 [0, 1] rfl (by decide) rfl) ⟨hx, hb, hml, hown, hts⟩ (mt_cf_BlockL l G oA H.size) ⟨va_cnB 0 hts (lw_meth q874) rfl rfl rfl (hK.2.1.2.1 _ (List.mem_of_getElem? (i := 8) rfl)) (hts _ q158) hd_X10_init.2 ⟨(Nat.le_of_ble_eq_true rfl), (Nat.le_of_ble_eq_true rfl)⟩, rfl, hts _ q873⟩ hP hD hS hA hK hE rfl hl.1 rfl (Nat.le_of_ble_eq_true rfl) dX11_init_1 ⟨(Nat.le_of_ble_eq_true rfl), (Nat.le_of_ble_eq_true rfl)⟩ (fun t_1 un1 ht_1 hft_1 H locs hP hD hS _ => ?_)
  refine W.eq (g2 := F0 m 4 ls []) rfl ?_
  refine lv_aload_n hx hb dX11_init_4 rfl (lv_at hl 0 rfl) ?_
  refine lv_iload_n hx hb dX11_init_5 rfl (lv_at hl 1 rfl) ?_
  refine va_putF (D := G.1) (ci := 9) (v := .int times) (ty := .int) (C := RX11) (T := TX11) (N := 3) hx hb hts in_X11 tyX11 tyX11_ok nmX11 hown hK.1 hP hD hS 0 rfl rfl 2 (Nat.le_of_ble_eq_true rfl) (hts _ q881) (fun _ h => h) rfl hnm rfl (tyX11_ok 2 (Nat.le_of_ble_eq_true rfl)) rfl rfl (Nat.le_of_ble_eq_true rfl) dX11_init_6 (fun H locs hP hD hS => ?_)
  have hP : va_P G.1 zcl [(oA, .inr (9, [.ref (un1 0), .int 0, .int times])), (un1 0, .inl (G.2 6, 4, .inr (.inr (.inr (.inr (fun _ => none))))))] H := hP
  have hD : va_D A [(oA, .inr (9, [.ref (un1 0), .int 0, .int times])), (un1 0, .inl (G.2 6, 4, .inr (.inr (.inr (.inr (fun _ => none))))))] := hD
  exact zr_nv (zAd [un1 0]) hx hb hr hlocks hP hD hS dX11_init_9 rfl rfl trivial
set_option maxHeartbeats 4000000 in
set_option maxRecDepth 100000 in
theorem mt_cf_BlockW (l : Launch) (G : zG) (oA : Nat) (sz : Nat) : Met l yX10_init (ws_ yX10_init cX10_init 1 none) (zR 3 1 4) (zPm G sz [.ref oA] [(oA, .inr (10, [.null, .int 0, .int 0, .int 0, .int 0]))]) (zQe G (fun (u : Nat → Nat) => True) (fun (u : Nat → Nat) => none) (fun (u : Nat → Nat) => [(oA, .inr (10, [.ref (u 0), .int 0, .int 0, .int 0, .int 0])), ((u 0), .inl (G.2 6, 4, .inr (.inr (.inr (.inr (fun _ => none))))))]) (va_A [(oA, .inr (10, [.null, .int 0, .int 0, .int 0, .int 0]))] sz)) 1 4 (va_A [(oA, .inr (10, [.null, .int 0, .int 0, .int 0, .int 0]))] sz) := by
  refine zr_entW (by decide) (Nat.le_of_ble_eq_true rfl) ?_
  intro p e s m below meth c ⟨hx, hb, hr, hml, hown, hts, hlocks, hnm⟩ ls hl hP hK A hE hA hD hS
  have hown : s.vm.findClass RX10 = some m.cls := hown
  have hl : lv_has ls 1 [(0, .ref oA)] := hl
  obtain ⟨H, hH⟩ : ∃ H, H = s.heap := ⟨_, rfl⟩
  obtain ⟨locs, hlo⟩ : ∃ L : List Loc, L = [] := ⟨_, rfl⟩
  rw [← hH] at hP
  have hS : va_S A s.heap H locs := by rw [hH, hlo]; exact va_S.rf
  have hgo : W p l e (zR 3 1 4) s m ([.ref oA] : List Value).toArray below meth c H locs 0 0 (MQ below (zQe G (fun (u : Nat → Nat) => True) (fun (u : Nat → Nat) => none) (fun (u : Nat → Nat) => [(oA, .inr (10, [.ref (u 0), .int 0, .int 0, .int 0, .int 0])), ((u 0), .inl (G.2 6, 4, .inr (.inr (.inr (.inr (fun _ => none))))))]) A) ([.ref oA] : List Value).toArray s 1 4 A) (F0 m 0 ls []) := ?_
  · rw [hH, hlo] at hgo; exact hgo
  clear hH hlo
  refine lv_aload_n hx hb dX10_init_0 rfl (lv_at hl 0 rfl) ?_
  refine zr_muNIN (ws := [(oA, .inr (10, [.null, .int 0, .int 0, .int 0, .int 0]))]) (F := ()) (ff := fun t_1 _ => True) (wr := [(oA, .inr (10, [.null, .int 0, .int 0, .int 0, .int 0]))]) (w0 := []) (w1 := fun t_1 un1 => []) (wn := fun t_1 un1 => [(oA, .inr (10, [.null, .int 0, .int 0, .int 0, .int 0]))]) (perm_pos 1 [0] rfl (by decide) rfl) (fun _ _ => perm_pos 1 [0] rfl (by decide) rfl) ⟨hx, hb, hml, hown, hts⟩ (mt_cf_Step l G oA H.size) ⟨va_cnB 0 hts (lw_meth q877) rfl rfl rfl (hK.2.1.2.1 _ (List.mem_of_getElem? (i := 5) rfl)) (hts _ q157) hd_X9_init.2 ⟨(Nat.le_of_ble_eq_true rfl), (Nat.le_of_ble_eq_true rfl)⟩, rfl, hts _ q876⟩ hP hD hS hA hK hE rfl hl.1 rfl (Nat.le_of_ble_eq_true rfl) dX10_init_1 ⟨(Nat.le_of_ble_eq_true rfl), (Nat.le_of_ble_eq_true rfl)⟩ (fun t_1 un1 ht_1 hft_1 H locs hP hD hS _ => ?_)
  refine W.eq (g2 := F0 m 4 ls []) rfl ?_
  refine lv_aload_n hx hb dX10_init_4 rfl (lv_at hl 0 rfl) ?_
  refine lv_iconst (v := 4) hx hb dX10_init_5 (by decide) ?_
  refine zr_newq (N' := 4) 6 hx hb hown (hts _ q879) (hK.2.1.2.2.1 "WindowHill$Step" (by decide)) rfl hK hP hD hS hA (by decide) (by decide) (Nat.le_of_ble_eq_true rfl) (Nat.le_of_ble_eq_true rfl) (Nat.le_of_ble_eq_true rfl) dX10_init_6 (fun qn1 H hP hD hS => ?_)
  have hP : va_P G.1 zcl [(oA, .inr (10, [.null, .int 0, .int 0, .int 0, .int 0])), (qn1, .inl (G.2 6, 4, .inr (.inr (.inr (.inr (fun _ => none))))))] H := hP
  have hD : va_D A [(oA, .inr (10, [.null, .int 0, .int 0, .int 0, .int 0])), (qn1, .inl (G.2 6, 4, .inr (.inr (.inr (.inr (fun _ => none))))))] := hD
  refine va_put (D := G.1) (ci := 10) (v := .ref qn1) (ty := (.array (.object "WindowHill$Step"))) (C := RX12) (T := TX12) (N := 5) hx hb hts in_X12 tyX12 tyX12_ok nmX12 hown hK.1 hP hD hS 0 rfl rfl 0 (Nat.le_of_ble_eq_true rfl) (hts _ q882) (fun _ h => h) rfl (tyX12_ok 0 (Nat.le_of_ble_eq_true rfl)) rfl rfl (Nat.le_of_ble_eq_true rfl) dX10_init_9 (fun H locs hP hD hS => ?_)
  have hP : va_P G.1 zcl [(oA, .inr (10, [.ref qn1, .int 0, .int 0, .int 0, .int 0])), (qn1, .inl (G.2 6, 4, .inr (.inr (.inr (.inr (fun _ => none))))))] H := hP
  have hD : va_D A [(oA, .inr (10, [.ref qn1, .int 0, .int 0, .int 0, .int 0])), (qn1, .inl (G.2 6, 4, .inr (.inr (.inr (.inr (fun _ => none))))))] := hD
  exact zr_nv (zAd [qn1]) hx hb hr hlocks hP hD hS dX10_init_12 rfl rfl trivial
theorem hd_X12_init : yX12_init.cls = RX12 ∧ yX12_init.cls ≠ "java/lang/invoke/MethodHandle" ∧ yX12_init.cls ≠ "java/lang/invoke/VarHandle" ∧ (parseMethodDescriptor yX12_init.desc).map (fun d => d.parameters.length) = some 3 := by decide +kernel
set_option maxHeartbeats 4000000 in
set_option maxRecDepth 100000 in
theorem mt_cf_When (l : Launch) (G : zG) (oA : Nat) (what : Int32) (number : Int32) (sign : Int32) (sz : Nat) : Met l yX12_init (ws_ yX12_init cX12_init 4 none) (zR 4 1 4) (zPm G sz [.ref oA, .int what, .int number, .int sign] [(oA, .inr (10, [.null, .int 0, .int 0, .int 0, .int 0]))]) (zQe G (fun (u : Nat → Nat) => True) (fun (u : Nat → Nat) => none) (fun (u : Nat → Nat) => [(oA, .inr (10, [.ref (u 0), .int 0, .int what, .int number, .int sign])), (u 0, .inl (G.2 6, 4, .inr (.inr (.inr (.inr (fun _ => none))))))]) (va_A [(oA, .inr (10, [.null, .int 0, .int 0, .int 0, .int 0]))] sz)) 1 4 (va_A [(oA, .inr (10, [.null, .int 0, .int 0, .int 0, .int 0]))] sz) := by
  refine zr_entW (by decide) (Nat.le_of_ble_eq_true rfl) ?_
  intro p e s m below meth c ⟨hx, hb, hr, hml, hown, hts, hlocks, hnm⟩ ls hl hP hK A hE hA hD hS
  have hown : s.vm.findClass RX12 = some m.cls := hown
  have hl : lv_has ls 4 [(0, .ref oA), (1, .int what), (2, .int number), (3, .int sign)] := hl
  obtain ⟨H, hH⟩ : ∃ H, H = s.heap := ⟨_, rfl⟩
  obtain ⟨locs, hlo⟩ : ∃ L : List Loc, L = [] := ⟨_, rfl⟩
  rw [← hH] at hP
  have hS : va_S A s.heap H locs := by rw [hH, hlo]; exact va_S.rf
  have hgo : W p l e (zR 4 1 4) s m ([.ref oA, .int what, .int number, .int sign] : List Value).toArray below meth c H locs 0 0 (MQ below (zQe G (fun (u : Nat → Nat) => True) (fun (u : Nat → Nat) => none) (fun (u : Nat → Nat) => [(oA, .inr (10, [.ref (u 0), .int 0, .int what, .int number, .int sign])), (u 0, .inl (G.2 6, 4, .inr (.inr (.inr (.inr (fun _ => none))))))]) A) ([.ref oA, .int what, .int number, .int sign] : List Value).toArray s 1 4 A) (F0 m 0 ls []) := ?_
  · rw [hH, hlo] at hgo; exact hgo
  clear hH hlo
  refine lv_aload_n hx hb dX12_init_0 rfl (lv_at hl 0 rfl) ?_
  refine zr_muNIN (ws := [(oA, .inr (10, [.null, .int 0, .int 0, .int 0, .int 0]))]) (F := ()) (ff := fun t_1 _ => True) (wr := []) (w0 := [(oA, .inr (10, [.null, .int 0, .int 0, .int 0, .int 0]))]) (w1 := fun t_1 un1 => [(oA, .inr (10, [.ref (un1 0), .int 0, .int 0, .int 0, .int 0])), ((un1 0), .inl (G.2 6, 4, .inr (.inr (.inr (.inr (fun _ => none))))))]) (wn := fun t_1 un1 => [(oA, .inr (10, [.ref (un1 0), .int 0, .int 0, .int 0, .int 0])), (un1 0, .inl (G.2 6, 4, .inr (.inr (.inr (.inr (fun _ => none))))))]) (perm_pos 1 [0] rfl (by decide) rfl) (fun _ _ => perm_pos 2 [0, 1] rfl (by decide) rfl) ⟨hx, hb, hml, hown, hts⟩ (mt_cf_BlockW l G oA H.size) ⟨va_cnB 0 hts (lw_meth q874) rfl rfl rfl (hK.2.1.2.1 _ (List.mem_of_getElem? (i := 9) rfl)) (hts _ q158) hd_X10_init.2 ⟨(Nat.le_of_ble_eq_true rfl), (Nat.le_of_ble_eq_true rfl)⟩, rfl, hts _ q873⟩ hP hD hS hA hK hE rfl hl.1 rfl (Nat.le_of_ble_eq_true rfl) dX12_init_1 ⟨(Nat.le_of_ble_eq_true rfl), (Nat.le_of_ble_eq_true rfl)⟩ (fun t_1 un1 ht_1 hft_1 H locs hP hD hS _ => ?_)
  refine W.eq (g2 := F0 m 4 ls []) rfl ?_
  refine lv_aload_n hx hb dX12_init_4 rfl (lv_at hl 0 rfl) ?_
  refine lv_iload_n hx hb dX12_init_5 rfl (lv_at hl 1 rfl) ?_
  refine va_putF (D := G.1) (ci := 10) (v := .int what) (ty := .int) (C := RX12) (T := TX12) (N := 5) hx hb hts in_X12 tyX12 tyX12_ok nmX12 hown hK.1 hP hD hS 0 rfl rfl 2 (Nat.le_of_ble_eq_true rfl) (hts _ q921) (fun _ h => h) rfl hnm rfl (tyX12_ok 2 (Nat.le_of_ble_eq_true rfl)) rfl rfl (Nat.le_of_ble_eq_true rfl) dX12_init_6 (fun H locs hP hD hS => ?_)
  have hP : va_P G.1 zcl [(oA, .inr (10, [.ref (un1 0), .int 0, .int what, .int 0, .int 0])), (un1 0, .inl (G.2 6, 4, .inr (.inr (.inr (.inr (fun _ => none))))))] H := hP
  have hD : va_D A [(oA, .inr (10, [.ref (un1 0), .int 0, .int what, .int 0, .int 0])), (un1 0, .inl (G.2 6, 4, .inr (.inr (.inr (.inr (fun _ => none))))))] := hD
  refine lv_aload_n hx hb dX12_init_9 rfl (lv_at hl 0 rfl) ?_
  refine lv_iload_n hx hb dX12_init_10 rfl (lv_at hl 2 rfl) ?_
  refine va_putF (D := G.1) (ci := 10) (v := .int number) (ty := .int) (C := RX12) (T := TX12) (N := 5) hx hb hts in_X12 tyX12 tyX12_ok nmX12 hown hK.1 hP hD hS 0 rfl rfl 3 (Nat.le_of_ble_eq_true rfl) (hts _ q922) (fun _ h => h) rfl hnm rfl (tyX12_ok 3 (Nat.le_of_ble_eq_true rfl)) rfl rfl (Nat.le_of_ble_eq_true rfl) dX12_init_11 (fun H locs hP hD hS => ?_)
  have hP : va_P G.1 zcl [(oA, .inr (10, [.ref (un1 0), .int 0, .int what, .int number, .int 0])), (un1 0, .inl (G.2 6, 4, .inr (.inr (.inr (.inr (fun _ => none))))))] H := hP
  have hD : va_D A [(oA, .inr (10, [.ref (un1 0), .int 0, .int what, .int number, .int 0])), (un1 0, .inl (G.2 6, 4, .inr (.inr (.inr (.inr (fun _ => none))))))] := hD
  refine lv_aload_n hx hb dX12_init_14 rfl (lv_at hl 0 rfl) ?_
  refine lv_iload_n hx hb dX12_init_15 rfl (lv_at hl 3 rfl) ?_
  refine va_putF (D := G.1) (ci := 10) (v := .int sign) (ty := .int) (C := RX12) (T := TX12) (N := 5) hx hb hts in_X12 tyX12 tyX12_ok nmX12 hown hK.1 hP hD hS 0 rfl rfl 4 (Nat.le_of_ble_eq_true rfl) (hts _ q923) (fun _ h => h) rfl hnm rfl (tyX12_ok 4 (Nat.le_of_ble_eq_true rfl)) rfl rfl (Nat.le_of_ble_eq_true rfl) dX12_init_16 (fun H locs hP hD hS => ?_)
  have hP : va_P G.1 zcl [(oA, .inr (10, [.ref (un1 0), .int 0, .int what, .int number, .int sign])), (un1 0, .inl (G.2 6, 4, .inr (.inr (.inr (.inr (fun _ => none))))))] H := hP
  have hD : va_D A [(oA, .inr (10, [.ref (un1 0), .int 0, .int what, .int number, .int sign])), (un1 0, .inl (G.2 6, 4, .inr (.inr (.inr (.inr (fun _ => none))))))] := hD
  exact zr_nv (zAd [un1 0]) hx hb hr hlocks hP hD hS dX12_init_19 rfl rfl trivial
