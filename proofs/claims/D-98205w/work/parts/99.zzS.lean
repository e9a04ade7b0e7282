/-! the law: its loop, its end, its start -/
section LLP
variable {p : Program} {l : Launch} {e : Env} {s : State} {m : MethodId} {below : List Frame} {meth : Method} {c : Code} {G : zG} {b L : Nat} {xs : Nat → Int32} {ax ad : Nat → Nat} {xtr : Nat → Option Nat}
def zOff (k : Nat) : Int := [(251 : Int), (264 : Int), (278 : Int), (292 : Int), (335 : Int), (408 : Int), (442 : Int), (505 : Int), (568 : Int), (591 : Int), (614 : Int), (637 : Int), (660 : Int), (674 : Int), (717 : Int), (750 : Int), (783 : Int), (816 : Int), (869 : Int), (892 : Int), (915 : Int), (938 : Int), (981 : Int), (1004 : Int), (1028 : Int), (1051 : Int), (1075 : Int), (1098 : Int), (1111 : Int), (1134 : Int), (1157 : Int), (1180 : Int), (1194 : Int), (1208 : Int), (1222 : Int), (1236 : Int), (1250 : Int), (1303 : Int), (1346 : Int), (1379 : Int), (1442 : Int), (1495 : Int), (1528 : Int), (1541 : Int), (1554 : Int), (1567 : Int), (1580 : Int), (1603 : Int), (1626 : Int), (1639 : Int), (1672 : Int), (1685 : Int), (1708 : Int), (1741 : Int), (1754 : Int), (1777 : Int), (1800 : Int), (1833 : Int), (1846 : Int)].getD k 0
def zTgt (k : Nat) : Nat := [284, 297, 311, 325, 368, 441, 475, 538, 601, 624, 647, 670, 693, 707, 750, 783, 816, 849, 902, 925, 948, 971, 1014, 1037, 1061, 1084, 1108, 1131, 1144, 1167, 1190, 1213, 1227, 1241, 1255, 1269, 1283, 1336, 1379, 1412, 1475, 1528, 1561, 1574, 1587, 1600, 1613, 1636, 1659, 1672, 1705, 1718, 1741, 1774, 1787, 1810, 1833, 1866, 1879].getD k 0
theorem lw_case (C0 : lwC p l s m meth c G b L xs ax xtr) {i C S : Nat} (hi : i + 6 ≤ L) (hC : C + 100 ≤ 601536) (hS9 : S + 2600 ≤ 7248490) (K : lwG p l e s m below meth c G b ax xtr ad 1892 i (C + 100) (S + 2600)) : ∀ k, k < 59 → lwG p l e s m below meth c G b ax xtr ad (zTgt k) i C S := fun k hk =>
  match k, hk with
  | 0, _ => lc_status C0 hi hC hS9 K
  | 1, _ => lc_top C0 hi hC hS9 K
  | 2, _ => lc_bottom C0 hi hC hS9 K
  | 3, _ => lc_tray C0 hi hC hS9 K
  | 4, _ => lc_write C0 hi hC hS9 K
  | 5, _ => lc_read C0 hi hC hS9 K
  | 6, _ => lc_pour C0 hi hC hS9 K
  | 7, _ => lc_feed C0 hi hC hS9 K
  | 8, _ => lc_town C0 hi hC hS9 K
  | 9, _ => lc_year C0 hi hC hS9 K
  | 10, _ => lc_fault C0 hi hC hS9 K
  | 11, _ => lc_told C0 hi hC hS9 K
  | 12, _ => lc_picture C0 hi hC hS9 K
  | 13, _ => lc_lamp C0 hi hC hS9 K
  | 14, _ => lc_rule C0 hi hC hS9 K
  | 15, _ => lc_citizen C0 hi hC hS9 K
  | 16, _ => lc_turn C0 hi hC hS9 K
  | 17, _ => lc_paint C0 hi hC hS9 K
  | 18, _ => lc_paintRows C0 hi hC hS9 K
  | 19, _ => lc_copyRows C0 hi hC hS9 K
  | 20, _ => lc_mayor C0 hi hC hS9 K
  | 21, _ => lc_bend C0 hi hC hS9 K
  | 22, _ => lc_night C0 hi hC hS9 K
  | 23, _ => lc_ahead C0 hi hC hS9 K
  | 24, _ => lc_again C0 hi hC hS9 K
  | 25, _ => lc_far C0 hi hC hS9 K
  | 26, _ => lc_walks C0 hi hC hS9 K
  | 27, _ => lc_still C0 hi hC hS9 K
  | 28, _ => lc_next C0 hi hC hS9 K
  | 29, _ => lc_oil C0 hi hC hS9 K
  | 30, _ => lc_brightest C0 hi hC hS9 K
  | 31, _ => lc_ancestors C0 hi hC hS9 K
  | 32, _ => lc_ancestor C0 hi hC hS9 K
  | 33, _ => lc_stills C0 hi hC hS9 K
  | 34, _ => lc_firstStill C0 hi hC hS9 K
  | 35, _ => lc_pictures C0 hi hC hS9 K
  | 36, _ => lc_signal C0 hi hC hS9 K
  | 37, _ => lc_spoils C0 hi hC hS9 K
  | 38, _ => lc_worst C0 hi hC hS9 K
  | 39, _ => lc_mend C0 hi hC hS9 K
  | 40, _ => lc_unlike C0 hi hC hS9 K
  | 41, _ => lc_seen C0 hi hC hS9 K
  | 42, _ => lc_rulesLeft C0 hi hC hS9 K
  | 43, _ => lc_fits C0 hi hC hS9 K
  | 44, _ => lc_forget C0 hi hC hS9 K
  | 45, _ => lc_shows C0 hi hC hS9 K
  | 46, _ => lc_vote C0 hi hC hS9 K
  | 47, _ => lc_votes C0 hi hC hS9 K
  | 48, _ => lc_elect C0 hi hC hS9 K
  | 49, _ => lc_reads C0 hi hC hS9 K
  | 50, _ => lc_mirror C0 hi hC hS9 K
  | 51, _ => lc_heaps C0 hi hC hS9 K
  | 52, _ => lc_heap C0 hi hC hS9 K
  | 53, _ => lc_company C0 hi hC hS9 K
  | 54, _ => lc_live C0 hi hC hS9 K
  | 55, _ => lc_lived C0 hi hC hS9 K
  | 56, _ => lc_mean C0 hi hC hS9 K
  | 57, _ => lc_mark C0 hi hC hS9 K
  | 58, _ => lc_back C0 hi hC hS9 K
  | k + 59, h => absurd h (by omega)
theorem st_le {i L : Nat} (hL : L ≤ 384) (hi : i < 2 ^ 31) (h : ¬ Int32.ofNat L - 6 < nI i) : i + 6 ≤ L := by
  have h1 : (nI i).toInt ≤ (nI L - nI 6).toInt := Int32.le_iff_toInt_le.mp (Int32.not_lt.mp h)
  have h2 : (nI L - nI 6).toInt = (L : Int) - (6 : Nat) := by
    rw [Int32.toInt_sub, nI_toInt (by omega), nI_toInt (by decide)]
    exact Int.bmod_eq_of_le (by omega) (by omega)
  rw [h2, nI_toInt hi] at h1
  omega
theorem lw_head (C0 : lwC p l s m meth c G b L xs ax xtr) {i C S : Nat} (hi : i < 2 ^ 31) (hC : C ≤ 601536) (hS9 : S ≤ 7248490) (K : i + 6 ≤ L → ∀ k, k < 59 → lwG p l e s m below meth c G b ax xtr ad (zTgt k) i C S) (K2 : i + 6 ≤ L → lwG p l e s m below meth c G b ax xtr ad 1892 i C S) : lwG p l e s m below meth c G b ax xtr ad 18 i C S := by
  obtain ⟨hx, hb, hr, hml, hown, hts, hlocks, hK, hE, hX, hbl, hlt, htr, hL⟩ := C0
  intro w H locs cells slots ls hI hP hD hS hce hsl hl
  have hbA : ¬ (fun q : Nat => s.heap.size ≤ q) b := Nat.not_le.mpr hbl
  refine lv_iload_n hx hb dL_law_18 rfl (lv_at hl 3 rfl) ?_
  refine lv_aload_n hx hb dL_law_19 rfl (lv_at hl 0 rfl) ?_
  refine va_slen hx hb hX hbl hbA hS dL_law_20 ?_
  refine lv_bipush (v := 6) hx hb dL_law_21 (by decide) ?_
  refine lv_isub hx hb dL_law_23 ?_
  refine lv_icmp_gt (tgt := 1898) hx hb dL_law_24 (by decide) (fun c1 => ?_) (fun c1 => ?_)
  · refine lv_iconst (v := 1) hx hb dL_law_1898 (by decide) ?_
    refine va_forget (fun q hq => hS.2.2 q hq) ?_
    refine W.widen (k := 601536) (n := 7248490) (by omega) (by omega) ?_
    exact lw_ret hx hb hr hlocks dL_law_1899
  · have h6 : i + 6 ≤ L := st_le hL hi c1
    have h_0 : vp_in (nI i) L := vp_in_nI (by omega) (by omega)
    refine lv_aload_n hx hb dL_law_27 rfl (lv_at hl 0 rfl) ?_
    refine lv_iload_n hx hb dL_law_28 rfl (lv_at hl 3 rfl) ?_
    refine va_sld hx hb hX hbl hbA hS h_0 dL_law_29 ?_
    refine lv_bipush (v := 63) hx hb dL_law_30 (by decide) ?_
    refine lv_iand hx hb dL_law_32 ?_
    obtain ⟨y, hy⟩ : ∃ y : Int32, xs (nI i).toNatClampNeg &&& 63 = y := ⟨_, rfl⟩
    refine zr_val (congrArg Value.int hy) ?_
    by_cases c2 : y.toInt < 0 ∨ 58 < y.toInt
    · refine lv_tableOut (tgt := 1892) hx hb dL_law_33 c2 (by decide) ?_
      exact K2 h6 w H locs cells slots ls hI hP hD hS hce hsl hl
    · obtain ⟨k, hk, hky⟩ : ∃ k : Nat, k < 59 ∧ y.toInt = k := ⟨y.toInt.toNat, by omega, by omega⟩
      refine lv_tableIn (off := zOff k) (tgt := zTgt k) hx hb dL_law_33 (by omega) (by omega) ?_ ?_ ?_
      · rw [hky, show ((k : Int) - 0).toNat = k by omega]
        exact (show ∀ k, k < 59 → (#[251, 264, 278, 292, 335, 408, 442, 505, 568, 591, 614, 637, 660, 674, 717, 750, 783, 816, 869, 892, 915, 938, 981, 1004, 1028, 1051, 1075, 1098, 1111, 1134, 1157, 1180, 1194, 1208, 1222, 1236, 1250, 1303, 1346, 1379, 1442, 1495, 1528, 1541, 1554, 1567, 1580, 1603, 1626, 1639, 1672, 1685, 1708, 1741, 1754, 1777, 1800, 1833, 1846] : Array Int)[k]? = some (zOff k) by decide) k hk
      · exact (show ∀ k, k < 59 → ((33 : Nat) : Int) + zOff k = (zTgt k : Int) by decide) k hk
      · exact K h6 k hk w H locs cells slots ls hI hP hD hS hce hsl hl
theorem lw_loop (C0 : lwC p l s m meth c G b L xs ax xtr) : ∀ (n i C S : Nat), L ≤ i + n → i + n ≤ 1000000 → C + 100 * n ≤ 601536 → S + 2600 * n ≤ 7248490 → lwG p l e s m below meth c G b ax xtr ad 18 i C S := by
  intro n
  induction n using Nat.strongRecOn with
  | ind n ih =>
    intro i C S h1 h2 h3 h4
    have hback : i + 6 ≤ L → ∀ C S, C + 100 * (n - 1) ≤ 601536 → S + 2600 * (n - 1) ≤ 7248490 → lwG p l e s m below meth c G b ax xtr ad 1892 i C S := by
      intro h6 C S hC hS9 w H locs cells slots ls hI hP hD hS hce hsl hl
      obtain ⟨hx, hb, hr, hml, hown, hts, hlocks, hK, hE, hX, hbl, hlt, htr, hL⟩ := id C0
      refine lv_iinc (v := nI (i + 6)) (lv' := [(3, .int (nI (i + 6))), (0, .ref b), (1, .ref (ax 0)), (2, .ref (ad 0))]) hx hb dL_law_1892 hl (k := 3) rfl (nI_add i 6) (by decide) rfl (fun ls hl => ?_)
      refine lv_goto (tgt := 18) hx hb dL_law_1895 (by decide) ?_
      exact ih (n - 6) (by omega) (i + 6) C S (by omega) (by omega) (by omega) (by omega) w H locs cells slots ls hI hP hD hS hce hsl (lv_sub hl [1, 2, 3, 0] rfl)
    refine lw_head C0 (by omega) (by omega) (by omega) (fun h6 => lw_case C0 h6 (by omega) (by omega) (hback h6 _ _ (by omega) (by omega))) (fun h6 => hback h6 _ _ (by omega) (by omega))
set_option maxHeartbeats 4000000 in
set_option maxRecDepth 100000 in
/-- the law, from its entry -/
theorem whole_start {p : Program} {e : Env} {s : State} {m : MethodId} {below : List Frame} {meth : Method} {c : Code} (l : Launch) (hflags : l.flags = flags0) {b L : Nat} {xs : Nat → Int32} (hL : L ≤ 384) (C0 : lw_At p s m meth c b L xs) : W p l e room_1 s m #[Value.ref b] below meth c s.heap [] 0 0 (lw_Z below #[Value.ref b] s) (entryFrame m ([Value.ref b] : List Value).toArray 4) := by
  obtain ⟨hx, hb, hr, hml, hown, htb, hX, hbl, hlocks, hgv⟩ := C0
  have hts : ∀ w ∈ lw_all, w.before #[Value.ref b] s = true := fun w h => htb w (lw_all_tbl h)
  obtain ⟨G, hK, hE⟩ := st_KK htb (flat_of_before _ hgv)
  have hlt : l.stackTraces = false := by
    unfold Launch.stackTraces
    rw [hflags]
    decide +kernel
  have hA : ∀ q : Nat, s.heap.size ≤ q → (fun q : Nat => s.heap.size ≤ q) q := fun _ h => h
  have hP : va_P G.1 zcl [] s.heap := fun k q h => by simp at h
  have hD : va_D (fun q : Nat => s.heap.size ≤ q) [] := ⟨fun i j p q h => by simp at h, fun k q h => by simp at h⟩
  have hS : va_S (fun q : Nat => s.heap.size ≤ q) s.heap s.heap [] := va_S.rf
  have hl := lv_entry ([.ref b]) (n := 4) (Nat.le_of_ble_eq_true rfl)
  rw [lg_entry_eq]
  generalize (lg_sl ([.ref b]) ++ List.replicate (4 - (lg_sl ([.ref b])).length) Slot.unset).toArray = ls at hl ⊢
  have hl : lv_has ls 4 [(0, .ref b)] := hl
  refine va_new (ci := 0) (fs := [.null, .null, .int 0, .int 0, .int 0, .null, .null, .int 0, .long 0, .long 0, .null, .null, .int 0, .null, .int 0, .int 0, .null, .int 0, .int 0, .int 0, .null, .null, .int (zb false)]) (C := RX0) (T := TX0) (N := 23) hx hb hts in_X0 tyX0 tyX0_ok hown (hts _ q164) (hts _ q165) (hts _ q135) hK.1 hP hD hS hA rfl (fun j hj => match j, hj with | 0, _ => rfl | 1, _ => rfl | 2, _ => rfl | 3, _ => rfl | 4, _ => rfl | 5, _ => rfl | 6, _ => rfl | 7, _ => rfl | 8, _ => rfl | 9, _ => rfl | 10, _ => rfl | 11, _ => rfl | 12, _ => rfl | 13, _ => rfl | 14, _ => rfl | 15, _ => rfl | 16, _ => rfl | 17, _ => rfl | 18, _ => rfl | 19, _ => rfl | 20, _ => rfl | 21, _ => rfl | 22, _ => rfl | j + 23, h => absurd h (by omega)) (Nat.le_of_ble_eq_true rfl) (Nat.le_of_ble_eq_true rfl) dL_law_0 (fun oA H hP hD hS => ?_)
  have hP : va_P G.1 zcl [(oA, .inr (0, [.null, .null, .int 0, .int 0, .int 0, .null, .null, .int 0, .long 0, .long 0, .null, .null, .int 0, .null, .int 0, .int 0, .null, .int 0, .int 0, .int 0, .null, .null, .int (zb false)]))] H := hP
  have hD : va_D (fun q : Nat => s.heap.size ≤ q) [(oA, .inr (0, [.null, .null, .int 0, .int 0, .int 0, .null, .null, .int 0, .long 0, .long 0, .null, .null, .int 0, .null, .int 0, .int 0, .null, .int 0, .int 0, .int 0, .null, .null, .int (zb false)]))] := hD
  refine lv_dup hx hb dL_law_3 rfl ?_
  refine zr_muNI (ws := [(oA, .inr (0, [.null, .null, .int 0, .int 0, .int 0, .null, .null, .int 0, .long 0, .long 0, .null, .null, .int 0, .null, .int 0, .int 0, .null, .int 0, .int 0, .int 0, .null, .null, .int (zb false)]))]) (F := ()) (ff := fun _ _ => True) (wr := []) (w0 := [(oA, .inr (0, [.null, .null, .int 0, .int 0, .int 0, .null, .null, .int 0, .long 0, .long 0, .null, .null, .int 0, .null, .int 0, .int 0, .null, .int 0, .int 0, .int 0, .null, .null, .int (zb false)]))]) (w1 := fun _ u => [(oA, .inr (0, [.ref (u 0), .ref (u 5), .int 0, .int (-1), .int (-1), .ref (u 6), .ref (u 7), .int 0, .long 0, .long 1, .ref (u 8), .ref (u 21), .int 0, .ref (u 22), .int 0, .int 0, .ref (u 23), .int 0, .int 0, .int 0, .ref (u 24), .ref (u 36), .int (zb false)])), ((u 0), .inl (G.2 4, 4, .inr (.inr (.inr (.inr (va_up (va_up (va_up (va_up (fun _ => none) 0 (some (u 1))) 1 (some (u 2))) 2 (some (u 3))) 3 (some (u 4)))))))), ((u 1), .inr (1, [.null])), ((u 2), .inr (1, [.null])), ((u 3), .inr (1, [.null])), ((u 4), .inr (1, [.null])), ((u 5), .inl (G.2 2, 900, .inl (fun _ => 0))), ((u 6), .inr (2, [.null, .null, .null, .null, .null, .int 0, .int 0, .int 0])), ((u 7), .inr (3, [.null, .null, .null, .null, .null, .int 0, .int 0])), ((u 8), .inr (4, [.ref (u 9), .null])), (u 9, .inr (5, [.ref (u 10), .ref (u 18), .ref (u 19), .ref (u 20), .int 0, .int (-1), .int 0, .int 0])), (u 10, .inr (6, [.int 1, .int 1, .int 1, .int 0, .int 0, .int 0, .int 0, .int (zb false), .ref (u 11), .ref (u 12), .ref (u 13), .ref (u 14), .ref (u 15), .ref (u 16), .ref (u 17)])), (u 11, .inl (G.2 0, 30, .inl (fun _ => 0))), (u 12, .inl (G.2 0, 6, .inl (fun _ => 0))), (u 13, .inl (G.2 0, 6, .inl (fun _ => 0))), (u 14, .inl (G.2 1, 4, .inr (.inl (fun _ => 0)))), (u 15, .inl (G.2 1, 6, .inr (.inl (fun _ => 0)))), (u 16, .inl (G.2 0, 4, .inl (fun _ => 0))), (u 17, .inl (G.2 0, 4, .inl (fun _ => 0))), (u 18, .inl (G.2 0, 4, .inl (fun _ => 0))), (u 19, .inl (G.2 0, 4, .inl (fun _ => 0))), (u 20, .inl (G.2 0, 10, .inl (fun _ => 0))), ((u 21), .inl (G.2 5, 3, .inr (.inr (.inr (.inr (fun _ => none)))))), ((u 22), .inl (G.2 0, 2001, .inl (fun _ => 0))), ((u 23), .inl (G.2 7, 6, .inr (.inr (.inr (.inr (fun k => some ((u 23) + 1 + k))))))), ((u 23) + 1 + 0, .inl (G.2 1, 1024, .inr (.inl (fun _ => 0)))), ((u 23) + 1 + 1, .inl (G.2 1, 1024, .inr (.inl (fun _ => 0)))), ((u 23) + 1 + 2, .inl (G.2 1, 1024, .inr (.inl (fun _ => 0)))), ((u 23) + 1 + 3, .inl (G.2 1, 1024, .inr (.inl (fun _ => 0)))), ((u 23) + 1 + 4, .inl (G.2 1, 1024, .inr (.inl (fun _ => 0)))), ((u 23) + 1 + 5, .inl (G.2 1, 1024, .inr (.inl (fun _ => 0)))), ((u 24), .inr (5, [.ref (u 25), .ref (u 33), .ref (u 34), .ref (u 35), .int 0, .int (-1), .int 0, .int 0])), (u 25, .inr (6, [.int 1, .int 1, .int 1, .int 0, .int 0, .int 0, .int 0, .int (zb false), .ref (u 26), .ref (u 27), .ref (u 28), .ref (u 29), .ref (u 30), .ref (u 31), .ref (u 32)])), (u 26, .inl (G.2 0, 30, .inl (fun _ => 0))), (u 27, .inl (G.2 0, 6, .inl (fun _ => 0))), (u 28, .inl (G.2 0, 6, .inl (fun _ => 0))), (u 29, .inl (G.2 1, 4, .inr (.inl (fun _ => 0)))), (u 30, .inl (G.2 1, 6, .inr (.inl (fun _ => 0)))), (u 31, .inl (G.2 0, 4, .inl (fun _ => 0))), (u 32, .inl (G.2 0, 4, .inl (fun _ => 0))), (u 33, .inl (G.2 0, 4, .inl (fun _ => 0))), (u 34, .inl (G.2 0, 4, .inl (fun _ => 0))), (u 35, .inl (G.2 0, 10, .inl (fun _ => 0))), ((u 36), .inl (G.2 0, 5, .inl (fun _ => 0)))]) (wn := fun _ u => [(oA, .inr (0, [.ref (u 0), .ref (u 5), .int 0, .int (-1), .int (-1), .ref (u 6), .ref (u 7), .int 0, .long 0, .long 1, .ref (u 8), .ref (u 21), .int 0, .ref (u 22), .int 0, .int 0, .ref (u 23), .int 0, .int 0, .int 0, .ref (u 24), .ref (u 36), .int (zb false)])), ((u 0), .inl (G.2 4, 4, .inr (.inr (.inr (.inr (va_up (va_up (va_up (va_up (fun _ => none) 0 (some (u 1))) 1 (some (u 2))) 2 (some (u 3))) 3 (some (u 4)))))))), ((u 1), .inr (1, [.null])), ((u 2), .inr (1, [.null])), ((u 3), .inr (1, [.null])), ((u 4), .inr (1, [.null])), ((u 5), .inl (G.2 2, 900, .inl (fun _ => 0))), ((u 6), .inr (2, [.null, .null, .null, .null, .null, .int 0, .int 0, .int 0])), ((u 7), .inr (3, [.null, .null, .null, .null, .null, .int 0, .int 0])), ((u 8), .inr (4, [.ref (u 9), .null])), (u 9, .inr (5, [.ref (u 10), .ref (u 18), .ref (u 19), .ref (u 20), .int 0, .int (-1), .int 0, .int 0])), (u 10, .inr (6, [.int 1, .int 1, .int 1, .int 0, .int 0, .int 0, .int 0, .int (zb false), .ref (u 11), .ref (u 12), .ref (u 13), .ref (u 14), .ref (u 15), .ref (u 16), .ref (u 17)])), (u 11, .inl (G.2 0, 30, .inl (fun _ => 0))), (u 12, .inl (G.2 0, 6, .inl (fun _ => 0))), (u 13, .inl (G.2 0, 6, .inl (fun _ => 0))), (u 14, .inl (G.2 1, 4, .inr (.inl (fun _ => 0)))), (u 15, .inl (G.2 1, 6, .inr (.inl (fun _ => 0)))), (u 16, .inl (G.2 0, 4, .inl (fun _ => 0))), (u 17, .inl (G.2 0, 4, .inl (fun _ => 0))), (u 18, .inl (G.2 0, 4, .inl (fun _ => 0))), (u 19, .inl (G.2 0, 4, .inl (fun _ => 0))), (u 20, .inl (G.2 0, 10, .inl (fun _ => 0))), ((u 21), .inl (G.2 5, 3, .inr (.inr (.inr (.inr (fun _ => none)))))), ((u 22), .inl (G.2 0, 2001, .inl (fun _ => 0))), ((u 23), .inl (G.2 7, 6, .inr (.inr (.inr (.inr (fun k => some ((u 23) + 1 + k))))))), ((u 23) + 1 + 0, .inl (G.2 1, 1024, .inr (.inl (fun _ => 0)))), ((u 23) + 1 + 1, .inl (G.2 1, 1024, .inr (.inl (fun _ => 0)))), ((u 23) + 1 + 2, .inl (G.2 1, 1024, .inr (.inl (fun _ => 0)))), ((u 23) + 1 + 3, .inl (G.2 1, 1024, .inr (.inl (fun _ => 0)))), ((u 23) + 1 + 4, .inl (G.2 1, 1024, .inr (.inl (fun _ => 0)))), ((u 23) + 1 + 5, .inl (G.2 1, 1024, .inr (.inl (fun _ => 0)))), ((u 24), .inr (5, [.ref (u 25), .ref (u 33), .ref (u 34), .ref (u 35), .int 0, .int (-1), .int 0, .int 0])), (u 25, .inr (6, [.int 1, .int 1, .int 1, .int 0, .int 0, .int 0, .int 0, .int (zb false), .ref (u 26), .ref (u 27), .ref (u 28), .ref (u 29), .ref (u 30), .ref (u 31), .ref (u 32)])), (u 26, .inl (G.2 0, 30, .inl (fun _ => 0))), (u 27, .inl (G.2 0, 6, .inl (fun _ => 0))), (u 28, .inl (G.2 0, 6, .inl (fun _ => 0))), (u 29, .inl (G.2 1, 4, .inr (.inl (fun _ => 0)))), (u 30, .inl (G.2 1, 6, .inr (.inl (fun _ => 0)))), (u 31, .inl (G.2 0, 4, .inl (fun _ => 0))), (u 32, .inl (G.2 0, 4, .inl (fun _ => 0))), (u 33, .inl (G.2 0, 4, .inl (fun _ => 0))), (u 34, .inl (G.2 0, 4, .inl (fun _ => 0))), (u 35, .inl (G.2 0, 10, .inl (fun _ => 0))), ((u 36), .inl (G.2 0, 5, .inl (fun _ => 0)))]) (List.Perm.refl _) (fun _ _ => List.Perm.refl _) ⟨hx, hb, hml, hown, hts⟩ (mt_cf_WindowHill l G oA H.size) (cwI 0 hts (lw_meth q168) rfl rfl rfl (hts _ q135) (hts _ q166) (hts _ q167) rfl hd_X0_init.2 ⟨(Nat.le_of_ble_eq_true rfl), (Nat.le_of_ble_eq_true rfl)⟩) hP hD hS hA hK hE rfl hl.1 rfl (Nat.le_of_ble_eq_true rfl) dL_law_4 ⟨(Nat.le_of_ble_eq_true rfl), (Nat.le_of_ble_eq_true rfl)⟩ (fun _ u _ _ H locs hP hD hS _ => ?_)
  have hP : va_P G.1 zcl (XU G oA u (fun k => some (u 23 + 1 + k))) H := hP
  have hD : va_D (fun q : Nat => s.heap.size ≤ q) (XU G oA u (fun k => some (u 23 + 1 + k))) := hD
  rw [st_ways oA u] at hP hD
  generalize hxu : XU G oA u (fun k => some (ax0 oA u (50 + k))) = xw at hP hD
  refine lv_astore_n (lv' := [(1, .ref oA), (0, .ref b)]) hx hb dL_law_7 rfl hl (by decide) rfl (fun ls hl => ?_)
  refine va_new (ci := 7) (fs := [.null, .null, .int 0, .long 0, .long 0, .null, .null, .null, .null, .null, .int 0, .int 0, .int 0, .int 0, .int 0, .int 0, .int 0, .int 0, .int 0, .int 0, .null, .int 0, .int 0, .null, .null, .int 0, .int 0, .null, .null, .null, .int 0, .int 0, .int 0, .int 0, .null, .null, .null, .int (zb false), .int 0]) (C := RX7) (T := TX7) (N := 39) hx hb hts in_X7 tyX7 tyX7_ok hown (hts _ q1457) (hts _ q1458) (hts _ q144) hK.1 hP hD hS hA rfl (fun j hj => match j, hj with | 0, _ => rfl | 1, _ => rfl | 2, _ => rfl | 3, _ => rfl | 4, _ => rfl | 5, _ => rfl | 6, _ => rfl | 7, _ => rfl | 8, _ => rfl | 9, _ => rfl | 10, _ => rfl | 11, _ => rfl | 12, _ => rfl | 13, _ => rfl | 14, _ => rfl | 15, _ => rfl | 16, _ => rfl | 17, _ => rfl | 18, _ => rfl | 19, _ => rfl | 20, _ => rfl | 21, _ => rfl | 22, _ => rfl | 23, _ => rfl | 24, _ => rfl | 25, _ => rfl | 26, _ => rfl | 27, _ => rfl | 28, _ => rfl | 29, _ => rfl | 30, _ => rfl | 31, _ => rfl | 32, _ => rfl | 33, _ => rfl | 34, _ => rfl | 35, _ => rfl | 36, _ => rfl | 37, _ => rfl | 38, _ => rfl | j + 39, h => absurd h (by omega)) (Nat.le_of_ble_eq_true rfl) (Nat.le_of_ble_eq_true rfl) dL_law_8 (fun mA H hP hD hS => ?_)
  have hP : va_P G.1 zcl (xw ++ [(mA, .inr (7, [.null, .null, .int 0, .long 0, .long 0, .null, .null, .null, .null, .null, .int 0, .int 0, .int 0, .int 0, .int 0, .int 0, .int 0, .int 0, .int 0, .int 0, .null, .int 0, .int 0, .null, .null, .int 0, .int 0, .null, .null, .null, .int 0, .int 0, .int 0, .int 0, .null, .null, .null, .int (zb false), .int 0]))]) H := hP
  have hD : va_D (fun q : Nat => s.heap.size ≤ q) (xw ++ [(mA, .inr (7, [.null, .null, .int 0, .long 0, .long 0, .null, .null, .null, .null, .null, .int 0, .int 0, .int 0, .int 0, .int 0, .int 0, .int 0, .int 0, .int 0, .int 0, .null, .int 0, .int 0, .null, .null, .int 0, .int 0, .null, .null, .null, .int 0, .int 0, .int 0, .int 0, .null, .null, .null, .int (zb false), .int 0]))]) := hD
  refine lv_dup hx hb dL_law_11 rfl ?_
  refine zr_muNI (ws := xw ++ [(mA, .inr (7, [.null, .null, .int 0, .long 0, .long 0, .null, .null, .null, .null, .null, .int 0, .int 0, .int 0, .int 0, .int 0, .int 0, .int 0, .int 0, .int 0, .int 0, .null, .int 0, .int 0, .null, .null, .int 0, .int 0, .null, .null, .null, .int 0, .int 0, .int 0, .int 0, .null, .null, .null, .int (zb false), .int 0]))]) (F := ()) (ff := fun _ _ => True) (wr := xw) (w0 := [(mA, .inr (7, [.null, .null, .int 0, .long 0, .long 0, .null, .null, .null, .null, .null, .int 0, .int 0, .int 0, .int 0, .int 0, .int 0, .int 0, .int 0, .int 0, .int 0, .null, .int 0, .int 0, .null, .null, .int 0, .int 0, .null, .null, .null, .int 0, .int 0, .int 0, .int 0, .null, .null, .null, .int (zb false), .int 0]))]) (w1 := fun _ v => [(mA, .inr (7, [.ref (v 0), .ref (v 1), .int 0, .long 0, .long 1, .ref (v 2), .ref (v 3), .ref (v 4), .ref (v 5), .ref (v 6), .int 0, .int 0, .int 0, .int 0, .int 0, .int 0, .int (-1), .int (-1), .int 0, .int 0, .ref (v 7), .int 0, .int 0, .ref (v 8), .ref (v 9), .int 0, .int 0, .ref (v 10), .ref (v 11), .ref (v 12), .int 0, .int 0, .int 0, .int 0, .ref (v 13), .ref (v 14), .ref (v 15), .int (zb false), .int 0])), ((v 0), .inl (G.2 0, 2460, .inl (cf_WindowHillModel))), ((v 1), .inl (G.2 1, 60, .inr (.inl (fun _ => 0)))), ((v 2), .inl (G.2 0, 4, .inl (fun _ => 0))), ((v 3), .inl (G.2 0, 4, .inl (upd (upd (upd (upd (fun _ => 0) 0 (-1)) 1 (-1)) 2 (-1)) 3 (-1)))), ((v 4), .inl (G.2 1, 240, .inr (.inl (fun _ => 0)))), ((v 5), .inl (G.2 2, 900, .inl (fun _ => 0))), ((v 6), .inl (G.2 2, 900, .inl (fun _ => 0))), ((v 7), .inl (G.2 0, 3, .inl (fun _ => 0))), ((v 8), .inl (G.2 0, 30, .inl (fun _ => 0))), ((v 9), .inl (G.2 0, 2001, .inl (fun _ => 0))), ((v 10), .inl (G.2 1, 1024, .inr (.inl (fun _ => 0)))), ((v 11), .inl (G.2 1, 1024, .inr (.inl (fun _ => 0)))), ((v 12), .inl (G.2 0, 6144, .inl (fun _ => 0))), ((v 13), .inl (G.2 0, 80, .inl (fun _ => 0))), ((v 14), .inl (G.2 0, 5, .inl (fun _ => 0))), ((v 15), .inl (G.2 0, 5, .inl (fun _ => 0)))]) (wn := fun _ v => xw ++ [(mA, .inr (7, [.ref (v 0), .ref (v 1), .int 0, .long 0, .long 1, .ref (v 2), .ref (v 3), .ref (v 4), .ref (v 5), .ref (v 6), .int 0, .int 0, .int 0, .int 0, .int 0, .int 0, .int (-1), .int (-1), .int 0, .int 0, .ref (v 7), .int 0, .int 0, .ref (v 8), .ref (v 9), .int 0, .int 0, .ref (v 10), .ref (v 11), .ref (v 12), .int 0, .int 0, .int 0, .int 0, .ref (v 13), .ref (v 14), .ref (v 15), .int (zb false), .int 0])), ((v 0), .inl (G.2 0, 2460, .inl (cf_WindowHillModel))), ((v 1), .inl (G.2 1, 60, .inr (.inl (fun _ => 0)))), ((v 2), .inl (G.2 0, 4, .inl (fun _ => 0))), ((v 3), .inl (G.2 0, 4, .inl (upd (upd (upd (upd (fun _ => 0) 0 (-1)) 1 (-1)) 2 (-1)) 3 (-1)))), ((v 4), .inl (G.2 1, 240, .inr (.inl (fun _ => 0)))), ((v 5), .inl (G.2 2, 900, .inl (fun _ => 0))), ((v 6), .inl (G.2 2, 900, .inl (fun _ => 0))), ((v 7), .inl (G.2 0, 3, .inl (fun _ => 0))), ((v 8), .inl (G.2 0, 30, .inl (fun _ => 0))), ((v 9), .inl (G.2 0, 2001, .inl (fun _ => 0))), ((v 10), .inl (G.2 1, 1024, .inr (.inl (fun _ => 0)))), ((v 11), .inl (G.2 1, 1024, .inr (.inl (fun _ => 0)))), ((v 12), .inl (G.2 0, 6144, .inl (fun _ => 0))), ((v 13), .inl (G.2 0, 80, .inl (fun _ => 0))), ((v 14), .inl (G.2 0, 5, .inl (fun _ => 0))), ((v 15), .inl (G.2 0, 5, .inl (fun _ => 0)))]) (List.Perm.refl _) (fun _ _ => List.Perm.refl _) ⟨hx, hb, hml, hown, hts⟩ (mt_cf_WindowHillModel l G mA H.size) (cwI 0 hts (lw_meth q1461) rfl rfl rfl (hts _ q144) (hts _ q1459) (hts _ q1460) rfl hd_X7_init.2 ⟨(Nat.le_of_ble_eq_true rfl), (Nat.le_of_ble_eq_true rfl)⟩) hP hD hS hA hK hE rfl hl.1 rfl (Nat.le_of_ble_eq_true rfl) dL_law_12 ⟨(Nat.le_of_ble_eq_true rfl), (Nat.le_of_ble_eq_true rfl)⟩ (fun _ v _ _ H locs hP hD hS _ => ?_)
  have hP : va_P G.1 zcl (xw ++ MU G mA v) H := hP
  have hD : va_D (fun q : Nat => s.heap.size ≤ q) (xw ++ MU G mA v) := hD
  refine lv_astore_n (lv' := [(2, .ref mA), (1, .ref oA), (0, .ref b)]) hx hb dL_law_15 rfl hl (by decide) rfl (fun ls hl => ?_)
  refine lv_iconst (v := 0) hx hb dL_law_16 (by decide) ?_
  refine lv_istore_n (lv' := [(3, .int 0), (2, .ref mA), (1, .ref oA), (0, .ref b)]) hx hb dL_law_17 rfl hl (by decide) rfl (fun ls hl => ?_)
  have C9 : lwC p l s m meth c G b L xs (ax0 oA u) (xtr0 u) := ⟨hx, hb, hr, hml, hown, hts, hlocks, hK, hE, hX, hbl, hlt, st_tr oA u, hL⟩
  have hI : LI G (ax0 oA u) (xtr0 u) (ad0 mA v) (xw ++ MU G mA v) := by
    rw [← hxu]
    exact st_LI G oA mA u v
  exact lw_loop C9 L 0 100 30000 (by omega) (by omega) (by omega) (by omega) _ _ _ _ _ ls hI hP hD hS (Nat.le_of_ble_eq_true rfl) (Nat.le_of_ble_eq_true rfl) (lv_sub hl [3, 2, 1, 0] rfl)
end LLP
