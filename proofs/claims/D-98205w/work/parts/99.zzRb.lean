/-! the start, out of the tables -/
section LS
variable {s : State} {b : Nat}
set_option maxRecDepth 100000 in
theorem zFL_in : ∀ q ∈ zFL, (Cond.fieldLinkNest q.1 q.2.1 q.2.2.1 q.2.2.2.1 q.2.2.2.2 "WindowHill") ∈ lw_tbl := tb_in zFL (fun q => Cond.fieldLinkNest q.1 q.2.1 q.2.2.1 q.2.2.2.1 q.2.2.2.2 "WindowHill") [268, 179, 410, 374, 294, 298, 311, 315, 233, 235, 657, 412, 301, 655, 384, 389, 391, 387, 320, 376, 378, 324, 328, 305, 380, 1342, 1344, 1346, 1348, 1354, 1340, 1336, 1343, 373, 383, 386, 1350, 1345, 292, 296, 1347, 1341, 1351, 334, 337, 308, 303, 319, 322, 326, 313, 1349, 424, 430, 293, 317, 297, 300, 304, 307, 310, 335, 338, 330, 314, 323, 327, 332, 1339, 1352, 1353, 381, 1337] (by decide +kernel)
set_option maxRecDepth 100000 in
theorem zML_in : ∀ q ∈ zML, (Cond.methodLinkNest q.1 q.2.1 q.2.2 "WindowHill") ∈ lw_tbl := tb_in zML (fun q => Cond.methodLinkNest q.1 q.2.1 q.2.2 "WindowHill") [175, 275, 422, 630, 944, 875, 287, 281, 872, 920] (by decide +kernel)
set_option maxRecDepth 100000 in
theorem zCA_in : ∀ q ∈ zCA, (Cond.castable q.1 q.2) ∈ lw_tbl := tb_in zCA (fun q => Cond.castable q.1 q.2) [531, 575, 2158, 2159, 2160, 2161, 185, 256] (by decide +kernel)
set_option maxRecDepth 100000 in
theorem zDE_in : ∀ q ∈ zDE, (Cond.declares q) ∈ lw_tbl := tb_in zDE (fun q => Cond.declares q) [188, 189, 186, 187, 532, 533, 576, 577, 1376, 1388] (by decide +kernel)
set_option maxRecDepth 100000 in
theorem zST_in : ∀ q ∈ zST, (Cond.stringRef q.1 q.2.1 q.2.2) ∈ lw_tbl := tb_in zST (fun q => Cond.stringRef q.1 q.2.1 q.2.2) [793, 794, 795, 796, 797, 798, 799, 804, 805, 806, 680, 749, 758, 767, 784, 785, 786, 787, 788, 807, 808, 809, 1674] (by decide +kernel)
set_option maxRecDepth 100000 in
theorem zAO_in : ∀ q ∈ zAO, (Cond.arrayOver (.object q)) ∈ lw_tbl := tb_in zAO (fun q => Cond.arrayOver (.object q)) [173, 418, 880] (by decide +kernel)
/-- the claim's start: the tables' numbers, the literals' places -/
theorem st_KK (hts : ∀ w ∈ lw_tbl, w.before #[Value.ref b] s = true) (hs : ∀ c ∈ flatC (Cond.and given_1 narrow_1), c.before #[Value.ref b] s = true) : ∃ G : zG, KK G s ∧ ZE G (fun q : Nat => s.heap.size ≤ q) s s.heap := by
  obtain ⟨c0, i0, k0⟩ := u_known (C := RX0) (T := TX0) (N := 23) (n := 23) hts (fun w h => lw_all_tbl (in_X0 w h)) (hts _ (lw_all_tbl q165))
  obtain ⟨c1, i1, k1⟩ := u_known (C := RX1) (T := TX1) (N := 1) (n := 1) hts (fun w h => lw_all_tbl (in_X1 w h)) (hts _ (lw_all_tbl q174))
  obtain ⟨c2, i2, k2⟩ := u_known (C := RX2) (T := TX2) (N := 8) (n := 8) hts (fun w h => lw_all_tbl (in_X2 w h)) (hts _ (lw_all_tbl q184))
  obtain ⟨c3, i3, k3⟩ := u_known (C := RX3) (T := TX3) (N := 7) (n := 7) hts (fun w h => lw_all_tbl (in_X3 w h)) (hts _ (lw_all_tbl q255))
  obtain ⟨c4, i4, k4⟩ := u_known (C := RX4) (T := TX4) (N := 2) (n := 2) hts (fun w h => lw_all_tbl (in_X4 w h)) (hts _ (lw_all_tbl q274))
  obtain ⟨c5, i5, k5⟩ := u_known (C := RX5) (T := TX5) (N := 8) (n := 8) hts (fun w h => lw_all_tbl (in_X5 w h)) (hts _ (lw_all_tbl q280))
  obtain ⟨c6, i6, k6⟩ := u_known (C := RX6) (T := TX6) (N := 15) (n := 15) hts (fun w h => lw_all_tbl (in_X6 w h)) (hts _ (lw_all_tbl q286))
  obtain ⟨c7, i7, k7⟩ := u_known (C := RX7) (T := TX7) (N := 39) (n := 39) hts (fun w h => lw_all_tbl (in_X7 w h)) (hts _ (lw_all_tbl q1458))
  obtain ⟨c8, i8, k8⟩ := u_known (C := RX8) (T := TX8) (N := 8) (n := 8) hts (fun w h => lw_all_tbl (in_X8 w h)) (hts _ (lw_all_tbl q632))
  obtain ⟨c9, i9, k9⟩ := u_known (C := RX11) (T := TX11) (N := 3) (n := 3) hts (fun w h => lw_all_tbl (in_X11 w h)) (hts _ (lw_all_tbl q868))
  obtain ⟨c10, i10, k10⟩ := u_known (C := RX12) (T := TX12) (N := 5) (n := 5) hts (fun w h => lw_all_tbl (in_X12 w h)) (hts _ (lw_all_tbl q912))
  obtain ⟨c11, i11, k11⟩ := u_known (C := RX13) (T := TX13) (N := 2) (n := 2) hts (fun w h => lw_all_tbl (in_X13 w h)) (hts _ (lw_all_tbl q940))
  obtain ⟨c12, i12, k12⟩ := u_known (C := RX14) (T := TX14) (N := 9) (n := 9) hts (fun w h => lw_all_tbl (in_X14 w h)) (hts _ (lw_all_tbl q1330))
  obtain ⟨a0, r0⟩ := st_pr (ty := .int) (hts _ (lw_all_tbl q370)) (fun C h => by cases h)
  obtain ⟨a1, r1⟩ := st_pr (ty := .long) (hts _ (lw_all_tbl q371)) (fun C h => by cases h)
  obtain ⟨a2, r2⟩ := st_pr (ty := .byte) (hts _ (lw_all_tbl q253)) (fun C h => by cases h)
  obtain ⟨a3, r3⟩ := st_pr (ty := .short) (hts _ (lw_all_tbl q555)) (fun C h => by cases h)
  obtain ⟨a4, r4⟩ := st_ob (C := "WindowHill$Tray") (hts _ q173)
  obtain ⟨a5, r5⟩ := st_ob (C := "WindowHill$House") (hts _ q418)
  obtain ⟨a6, r6⟩ := st_ob (C := "WindowHill$Step") (hts _ q880)
  have hal : zAL s := hts _ q420
  obtain ⟨a7, r7⟩ := st_al hal
  obtain ⟨adK, adV, hS, hE⟩ := st_str hs
  have hA : ∀ a : Nat, a < s.heap.size → ¬ (fun q : Nat => s.heap.size ≤ q) a := fun a h1 h2 => absurd h1 (Nat.not_lt.mpr h2)
  obtain ⟨g, hg0, hgK, hgV⟩ : ∃ g : Nat → ClassId, (∀ i, i < 8 → g i = [a0, a1, a2, a3, a4, a5, a6, a7].getD i 0) ∧ (∀ i, i < 23 → g (100 + i) = adK i) ∧ ∀ i, i < 23 → g (200 + i) = adV i := by
    refine ⟨fun i => if i < 8 then [a0, a1, a2, a3, a4, a5, a6, a7].getD i 0 else if i < 200 then adK (i - 100) else adV (i - 200), fun i hi => if_pos hi, fun i hi => ?_, fun i hi => ?_⟩
    · show (if 100 + i < 8 then _ else if 100 + i < 200 then adK (100 + i - 100) else adV (100 + i - 200)) = adK i
      rw [if_neg (by omega), if_pos (by omega), show 100 + i - 100 = i by omega]
    · show (if 200 + i < 8 then _ else if 200 + i < 200 then adK (200 + i - 100) else adV (200 + i - 200)) = adV i
      rw [if_neg (by omega), if_neg (by omega), show 200 + i - 200 = i by omega]
  refine ⟨((fun c => [c0, c1, c2, c3, c4, c5, c6, c7, c8, c9, c10, c11, c12].getD c 0, fun c => [i0, i1, i2, i3, i4, i5, i6, i7, i8, i9, i10, i11, i12].getD c (fun _ => 0)), g), ⟨⟨?_, ?_⟩, ⟨fun q hq => va_Nw.of rfl (hts _ (zFL_in q hq)), fun q hq => va_Nw.of rfl (hts _ (zML_in q hq)), fun C hC => va_AO.of (hts _ (zAO_in C hC)), hal, fun q hq => va_Nw.of rfl (hts _ (zCA_in q hq)), fun q hq => va_Nw.of rfl (hts _ (zDE_in q hq)), fun q hq => va_Nc.of (hs _ (zNC_in q hq))⟩, ?_⟩, ?_, ?_, ?_, ?_, ?_⟩
  · intro c q hq
    match c, hq with
    | 0, hq =>
      have e : ((RX0, TX0, 23) : vw_C) = q := Option.some.inj hq
      subst e
      exact k0
    | 1, hq =>
      have e : ((RX1, TX1, 1) : vw_C) = q := Option.some.inj hq
      subst e
      exact k1
    | 2, hq =>
      have e : ((RX2, TX2, 8) : vw_C) = q := Option.some.inj hq
      subst e
      exact k2
    | 3, hq =>
      have e : ((RX3, TX3, 7) : vw_C) = q := Option.some.inj hq
      subst e
      exact k3
    | 4, hq =>
      have e : ((RX4, TX4, 2) : vw_C) = q := Option.some.inj hq
      subst e
      exact k4
    | 5, hq =>
      have e : ((RX5, TX5, 8) : vw_C) = q := Option.some.inj hq
      subst e
      exact k5
    | 6, hq =>
      have e : ((RX6, TX6, 15) : vw_C) = q := Option.some.inj hq
      subst e
      exact k6
    | 7, hq =>
      have e : ((RX7, TX7, 39) : vw_C) = q := Option.some.inj hq
      subst e
      exact k7
    | 8, hq =>
      have e : ((RX8, TX8, 8) : vw_C) = q := Option.some.inj hq
      subst e
      exact k8
    | 9, hq =>
      have e : ((RX11, TX11, 3) : vw_C) = q := Option.some.inj hq
      subst e
      exact k9
    | 10, hq =>
      have e : ((RX12, TX12, 5) : vw_C) = q := Option.some.inj hq
      subst e
      exact k10
    | 11, hq =>
      have e : ((RX13, TX13, 2) : vw_C) = q := Option.some.inj hq
      subst e
      exact k11
    | 12, hq =>
      have e : ((RX14, TX14, 9) : vw_C) = q := Option.some.inj hq
      subst e
      exact k12
    | k + 13, hq => simp [zcl] at hq
  · intro k q hq
    match k, hq with
    | 0, hq =>
      have e : ((g 0, .int) : ClassId × FieldType) = q := Option.some.inj hq
      subst e
      show ArrOfT s (g 0) (.int) ∧ va_RA s (g 0) (.int)
      rw [hg0 0 (by decide)]
      exact r0
    | 1, hq =>
      have e : ((g 1, .long) : ClassId × FieldType) = q := Option.some.inj hq
      subst e
      show ArrOfT s (g 1) (.long) ∧ va_RA s (g 1) (.long)
      rw [hg0 1 (by decide)]
      exact r1
    | 2, hq =>
      have e : ((g 2, .byte) : ClassId × FieldType) = q := Option.some.inj hq
      subst e
      show ArrOfT s (g 2) (.byte) ∧ va_RA s (g 2) (.byte)
      rw [hg0 2 (by decide)]
      exact r2
    | 3, hq =>
      have e : ((g 3, .short) : ClassId × FieldType) = q := Option.some.inj hq
      subst e
      show ArrOfT s (g 3) (.short) ∧ va_RA s (g 3) (.short)
      rw [hg0 3 (by decide)]
      exact r3
    | 4, hq =>
      have e : ((g 4, .object "WindowHill$Tray") : ClassId × FieldType) = q := Option.some.inj hq
      subst e
      show ArrOfT s (g 4) (.object "WindowHill$Tray") ∧ va_RA s (g 4) (.object "WindowHill$Tray")
      rw [hg0 4 (by decide)]
      exact r4
    | 5, hq =>
      have e : ((g 5, .object "WindowHill$House") : ClassId × FieldType) = q := Option.some.inj hq
      subst e
      show ArrOfT s (g 5) (.object "WindowHill$House") ∧ va_RA s (g 5) (.object "WindowHill$House")
      rw [hg0 5 (by decide)]
      exact r5
    | 6, hq =>
      have e : ((g 6, .object "WindowHill$Step") : ClassId × FieldType) = q := Option.some.inj hq
      subst e
      show ArrOfT s (g 6) (.object "WindowHill$Step") ∧ va_RA s (g 6) (.object "WindowHill$Step")
      rw [hg0 6 (by decide)]
      exact r6
    | 7, hq =>
      have e : ((g 7, .array .long) : ClassId × FieldType) = q := Option.some.inj hq
      subst e
      show ArrOfT s (g 7) (.array .long) ∧ va_RA s (g 7) (.array .long)
      rw [hg0 7 (by decide)]
      exact r7
    | k + 8, hq => simp [zty] at hq
  · intro i q hq
    obtain ⟨h1, h2⟩ := zst_tm i q hq
    refine vk_R.of (hts _ (zST_in q (List.mem_of_getElem? hq))) ?_
    show (Term.string q.1 q.2.1).eval #[Value.ref b] s none [] s = some (.ref (g (100 + i)))
    rw [h2, hgK i h1]
    exact hE i h1
  · refine ⟨fun i hi => ?_, fun i j hi hj e => hS.2 i j hi hj ?_⟩
    · have h1 := hS.1 i hi
      rw [← hgK i hi, ← hgV i hi] at h1
      exact h1
    · rw [← hgK i hi, ← hgK j hj]
      exact e
  · exact va_Zof (hts _ q698) (hts _ (lw_all_tbl q147)) (va_eqi (hs _ (by decide +kernel))) hA
  · exact va_Zqof (hts _ q714) (hts _ (lw_all_tbl q153)) (hs _ (by decide +kernel)) hA
  · exact vx_Zqof (C := "java/lang/Throwable") (n := "UNASSIGNED_STACK") (d := "[Ljava/lang/StackTraceElement;") (hts _ q208) (hts _ (lw_all_tbl q137)) (hs _ (by decide +kernel)) hA
  · exact vx_Zqof (C := "java/lang/Throwable") (n := "SUPPRESSED_SENTINEL") (d := "Ljava/util/List;") (hts _ q210) (hts _ (lw_all_tbl q137)) (hs _ (by decide +kernel)) hA
end LS
