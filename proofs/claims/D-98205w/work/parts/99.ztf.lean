/-- a tray's row: its width (0 byte, 1 short, 2 int, 3 long), its size, its numbers as longs -/
def zrow (G : zG) (so ra nn : Nat) (rv : Nat → Int64) : Nat × va_E := match so with
  | 0 => (ra, .inl (G.2 2, nn, .inl (fun j => (rv j).toInt32)))
  | 1 => (ra, .inl (G.2 3, nn, .inl (fun j => (rv j).toInt32)))
  | 2 => (ra, .inl (G.2 0, nn, .inl (fun j => (rv j).toInt32)))
  | _ => (ra, .inl (G.2 1, nn, .inr (.inl rv)))
def jW_ (G : zG) (so ra nn : Nat) (rv : Nat → Int64) : va_W := [zrow G so ra nn rv]
/-- what a row keeps of a number -/
def tcut (so : Nat) (x : Int64) : Int64 := match so with
  | 0 => x.toInt32.toInt8.toInt32.toInt64
  | 1 => x.toInt32.toInt16.toInt32.toInt64
  | 2 => x.toInt32.toInt64
  | _ => x
def tfit (so : Nat) (rv : Nat → Int64) : Prop := ∀ k, tcut so (rv k) = rv k
def tput (so : Nat) (rv : Nat → Int64) (k : Nat) (x : Int64) : Nat → Int64 := vp_updL rv k (tcut so x)
theorem t_64 (y : Int32) : y.toInt64.toInt32 = y := by simp
theorem t_n8 (y : Int32) : vp_nar .byte y.toInt8.toInt32 = y.toInt8.toInt32 := by
  show (y.toInt8.toInt32).toInt8.toInt32 = y.toInt8.toInt32
  simp
theorem t_n16 (y : Int32) : vp_nar .short y.toInt16.toInt32 = y.toInt16.toInt32 := by
  show (y.toInt16.toInt32).toInt16.toInt32 = y.toInt16.toInt32
  simp
theorem tcut_idem (so : Nat) (x : Int64) : tcut so (tcut so x) = tcut so x := by
  match so with
  | 0 => simp [tcut]
  | 1 => simp [tcut]
  | 2 => simp [tcut]
  | n + 3 => rfl
theorem tfit_32 {so : Nat} {rv : Nat → Int64} (h : tfit so rv) (hso : so < 3) (k : Nat) : (rv k).toInt32.toInt64 = rv k := by
  have h1 := h k
  have key : ∃ y : Int32, rv k = y.toInt64 := by
    match so, hso with
    | 0, _ => exact ⟨_, h1.symm⟩
    | 1, _ => exact ⟨_, h1.symm⟩
    | 2, _ => exact ⟨_, h1.symm⟩
  obtain ⟨y, hy⟩ := key
  rw [hy, t_64]
theorem tfit_put {so : Nat} {rv : Nat → Int64} (h : tfit so rv) (k : Nat) (x : Int64) : tfit so (tput so rv k x) := by
  intro j
  unfold tput vp_updL
  by_cases c : j = k
  · rw [if_pos c]; exact tcut_idem so x
  · rw [if_neg c]; exact h j
theorem tput_32 {so : Nat} {rv : Nat → Int64} {k : Nat} {x : Int64} {y : Int32} (h : y = (tcut so x).toInt32) : upd (fun j => (rv j).toInt32) k y = fun j => (tput so rv k x j).toInt32 := by
  funext j
  unfold tput vp_updL upd
  by_cases c : j = k
  · rw [if_pos c, if_pos c]; exact h
  · rw [if_neg c, if_neg c]
set_option maxHeartbeats 1000000 in
set_option maxRecDepth 100000 in
theorem mt_rsort (l : Launch) (G : zG) (so ra nn : Nat) (rv : Nat → Int64) (hso : so ≤ 3) : Met l yX0_sortOf (ws_ yX0_sortOf cX0_sortOf 1 (some .int)) (zR 1 0 0) (zPo G [.ref ra] (jW_ G so ra nn rv)) (k2_QcV (.int (nI so))) 0 0 (fun _ => False) := by
  match so, hso with
  | 0, _ =>
    exact mt_xk_sort0 l G ra nn (fun j => (rv j).toInt32)
  | 1, _ =>
    exact mt_xk_sort1 l G ra nn (fun j => (rv j).toInt32)
  | 2, _ =>
    exact mt_xk_sort2 l G ra nn (fun j => (rv j).toInt32)
  | 3, _ =>
    exact mt_xk_sort3 l G ra nn rv
set_option maxHeartbeats 1000000 in
set_option maxRecDepth 100000 in
theorem mt_rsize (l : Launch) (G : zG) (so ra nn : Nat) (rv : Nat → Int64) (hso : so ≤ 3) (hnn : nn ≤ 60) : Met l yX0_sizeOf (ws_ yX0_sizeOf cX0_sizeOf 2 (some .int)) (zR 1 0 0) (zPo G [.ref ra] (jW_ G so ra nn rv)) (k2_QcV (.int (nI nn))) 0 0 (fun _ => False) := by
  match so, hso with
  | 0, _ =>
    exact mt_xk_size0 l G ra nn (fun j => (rv j).toInt32) hnn
  | 1, _ =>
    exact mt_xk_size1 l G ra nn (fun j => (rv j).toInt32) hnn
  | 2, _ =>
    exact mt_xk_size2 l G ra nn (fun j => (rv j).toInt32) hnn
  | 3, _ =>
    exact mt_xk_size3 l G ra nn rv hnn
set_option maxHeartbeats 1000000 in
set_option maxRecDepth 100000 in
theorem mt_rnum (l : Launch) (G : zG) (so ra nn : Nat) (rv : Nat → Int64) (k : Nat) (hso : so ≤ 3) (hnn : nn ≤ 60) (hk : k < nn) (hf : tfit so rv) : Met l yX0_number (ws_ yX0_number cX0_number 3 (some .long)) (zR 1 0 0) (zPo G [.ref ra, .int (nI k)] (jW_ G so ra nn rv)) (k2_QcV (.long (rv k))) 0 0 (fun _ => False) := by
  match so, hso with
  | 0, _ =>
    have h := mt_xk_num0 l G ra nn (fun j => (rv j).toInt32) k hnn hk
    have e : ((rv k).toInt32).toInt64 = rv k := tfit_32 hf (by decide) k
    rw [show ((fun j => (rv j).toInt32) k).toInt64 = rv k from e] at h
    exact h
  | 1, _ =>
    have h := mt_xk_num1 l G ra nn (fun j => (rv j).toInt32) k hnn hk
    have e : ((rv k).toInt32).toInt64 = rv k := tfit_32 hf (by decide) k
    rw [show ((fun j => (rv j).toInt32) k).toInt64 = rv k from e] at h
    exact h
  | 2, _ =>
    have h := mt_xk_num2 l G ra nn (fun j => (rv j).toInt32) k hnn hk
    have e : ((rv k).toInt32).toInt64 = rv k := tfit_32 hf (by decide) k
    rw [show ((fun j => (rv j).toInt32) k).toInt64 = rv k from e] at h
    exact h
  | 3, _ =>
    have h := mt_xk_num3 l G ra nn rv k hnn hk
    exact h
set_option maxHeartbeats 1000000 in
set_option maxRecDepth 100000 in
theorem mt_rput (l : Launch) (G : zG) (so ra nn : Nat) (rv : Nat → Int64) (k : Nat) (x : Int64) (hso : so ≤ 3) (hnn : nn ≤ 60) (hk : k < nn) (sz : Nat) : Met l yX0_put (ws_ yX0_put cX0_put 7 none) (zR 1 0 0) (zPm G sz [.ref ra, .int (nI k), .long x] (jW_ G so ra nn rv)) (zQm G (True) none (jW_ G so ra nn (tput so rv k x)) (va_A (jW_ G so ra nn rv) sz)) 0 0 (va_A (jW_ G so ra nn rv) sz) := by
  match so, hso with
  | 0, _ =>
    have h := mt_xk_put0 l G ra nn (fun j => (rv j).toInt32) k x hnn hk sz
    have e : xk_put0 (fun j => (rv j).toInt32) k x = fun j => (tput 0 rv k x j).toInt32 := tput_32 (by rw [t_n8]; exact (t_64 _).symm)
    rw [e] at h
    exact h
  | 1, _ =>
    have h := mt_xk_put1 l G ra nn (fun j => (rv j).toInt32) k x hnn hk sz
    have e : xk_put1 (fun j => (rv j).toInt32) k x = fun j => (tput 1 rv k x j).toInt32 := tput_32 (by rw [t_n16]; exact (t_64 _).symm)
    rw [e] at h
    exact h
  | 2, _ =>
    have h := mt_xk_put2 l G ra nn (fun j => (rv j).toInt32) k x hnn hk sz
    have e : xk_put2 (fun j => (rv j).toInt32) k x = fun j => (tput 2 rv k x j).toInt32 := tput_32 (by exact (t_64 _).symm)
    rw [e] at h
    exact h
  | 3, _ =>
    have h := mt_xk_put3 l G ra nn rv k x hnn hk sz
    exact h
set_option maxHeartbeats 1000000 in
set_option maxRecDepth 100000 in
theorem mt_rnumO (l : Launch) (hlt : l.stackTraces = false) (G : zG) (so ra nn : Nat) (rv : Nat → Int64) (i : Int32) (hso : so ≤ 3) (hnn : nn ≤ 60) (ho : ¬ vp_in i nn) (sz : Nat) : vx_Met l yX0_number (ws_ yX0_number cX0_number 3 (some .long)) (zR 165 3 222) (zPm G sz [.ref ra, .int i] (jW_ G so ra nn rv)) zNoQ (zXt G "java/lang/ArrayIndexOutOfBoundsException" (jW_ G so ra nn rv) (va_A (jW_ G so ra nn rv) sz)) 3 222 (va_A (jW_ G so ra nn rv) sz) := by
  match so, hso with
  | 0, _ =>
    exact mt_xk_numO0 l hlt G ra nn (fun j => (rv j).toInt32) i hnn ho sz
  | 1, _ =>
    exact mt_xk_numO1 l hlt G ra nn (fun j => (rv j).toInt32) i hnn ho sz
  | 2, _ =>
    exact mt_xk_numO2 l hlt G ra nn (fun j => (rv j).toInt32) i hnn ho sz
  | 3, _ =>
    exact mt_xk_numO3 l hlt G ra nn rv i hnn ho sz
set_option maxHeartbeats 1000000 in
set_option maxRecDepth 100000 in
theorem mt_rputO (l : Launch) (hlt : l.stackTraces = false) (G : zG) (so ra nn : Nat) (rv : Nat → Int64) (i : Int32) (x : Int64) (hso : so ≤ 3) (hnn : nn ≤ 60) (ho : ¬ vp_in i nn) (sz : Nat) : vx_Met l yX0_put (ws_ yX0_put cX0_put 7 none) (zR 165 3 222) (zPm G sz [.ref ra, .int i, .long x] (jW_ G so ra nn rv)) zNoQ (zXt G "java/lang/ArrayIndexOutOfBoundsException" (jW_ G so ra nn rv) (va_A (jW_ G so ra nn rv) sz)) 3 222 (va_A (jW_ G so ra nn rv) sz) := by
  match so, hso with
  | 0, _ =>
    exact mt_xk_putO0 l hlt G ra nn (fun j => (rv j).toInt32) i x hnn ho sz
  | 1, _ =>
    exact mt_xk_putO1 l hlt G ra nn (fun j => (rv j).toInt32) i x hnn ho sz
  | 2, _ =>
    exact mt_xk_putO2 l hlt G ra nn (fun j => (rv j).toInt32) i x hnn ho sz
  | 3, _ =>
    exact mt_xk_putO3 l hlt G ra nn rv i x hnn ho sz
set_option maxHeartbeats 1000000 in
set_option maxRecDepth 100000 in
theorem mt_rrowO (l : Launch) (hlt : l.stackTraces = false) (G : zG) (so : Nat) (many : Int32) (hso : so ≤ 3) (hm : many < 0) (sz : Nat) : vx_Met l yX0_row (ws_ yX0_row cX0_row 2 (some (.object "java/lang/Object"))) (zR 165 3 222) (zPm G sz [.int (nI so), .int many] []) zNoQ (zXt G "java/lang/NegativeArraySizeException" [] (va_A [] sz)) 3 222 (va_A [] sz) := by
  match so, hso with
  | 0, _ =>
    exact mt_xk_rowO0 l hlt G many hm sz
  | 1, _ =>
    exact mt_xk_rowO1 l hlt G many hm sz
  | 2, _ =>
    exact mt_xk_rowO2 l hlt G many hm sz
  | 3, _ =>
    exact mt_xk_rowO3 l hlt G many hm sz
set_option maxHeartbeats 1000000 in
set_option maxRecDepth 100000 in
theorem mt_xk_row0 (l : Launch) (G : zG) (nn : Nat) (hnn : nn ≤ 60) (sz : Nat) : Met l yX0_row (ws_ yX0_row cX0_row 2 (some (.object "java/lang/Object"))) (zR 1 1 60) (zPm G sz [.int 0, .int (nI nn)] []) (zQe G (fun _ : Nat => True) (fun u => some (.ref u)) (fun u => [zrow G 0 u nn (fun _ => 0)]) (va_A [] sz)) 1 60 (va_A [] sz) := by
  refine zr_entE (by decide) (Nat.le_of_ble_eq_true rfl) ?_
  intro p e s m below meth c ⟨hx, hb, hr, hml, hown, hts, hlocks, hnm⟩ ls hl hP hK A hE hA hD hS
  have hl : lv_has ls 2 [(0, .int 0), (1, .int (nI nn))] := hl
  refine lv_iload_n hx hb dX0_row_0 rfl (lv_at hl 0 rfl) ?_
  refine lv_if_ne (tgt := 10) hx hb dX0_row_1 (by decide) (fun z => absurd rfl z) (fun _ => ?_)
  refine lv_iload_n hx hb dX0_row_4 rfl (lv_at hl 1 rfl) ?_
  refine zr_newa (atype := .byte) (ty := .byte) (a0 := (nn, .inl (fun _ => 0))) 2 hx hb (hts _ q253) rfl rfl hK hP hD hS hA (fun _ => rfl) (nI_pos (by omega)) (nI_clamp (by omega)) (by simp only [componentBytes]; omega) (Nat.le_of_ble_eq_true rfl) (by show 0 + nn ≤ 60; omega) dX0_row_5 (fun u H hP hD hS => ?_)
  refine lv_goto (tgt := 35) hx hb dX0_row_7 (by decide) ?_
  exact zr_ena (S := Nat) u hx hb hr hlocks hP hD hS dX0_row_35 rfl trivial (Nat.le_of_ble_eq_true rfl) (by show 0 + nn ≤ 60; omega)
set_option maxHeartbeats 1000000 in
set_option maxRecDepth 100000 in
theorem mt_xk_row1 (l : Launch) (G : zG) (nn : Nat) (hnn : nn ≤ 60) (sz : Nat) : Met l yX0_row (ws_ yX0_row cX0_row 2 (some (.object "java/lang/Object"))) (zR 1 1 60) (zPm G sz [.int 1, .int (nI nn)] []) (zQe G (fun _ : Nat => True) (fun u => some (.ref u)) (fun u => [zrow G 1 u nn (fun _ => 0)]) (va_A [] sz)) 1 60 (va_A [] sz) := by
  refine zr_entE (by decide) (Nat.le_of_ble_eq_true rfl) ?_
  intro p e s m below meth c ⟨hx, hb, hr, hml, hown, hts, hlocks, hnm⟩ ls hl hP hK A hE hA hD hS
  have hl : lv_has ls 2 [(0, .int 1), (1, .int (nI nn))] := hl
  refine lv_iload_n hx hb dX0_row_0 rfl (lv_at hl 0 rfl) ?_
  refine lv_if_ne (tgt := 10) hx hb dX0_row_1 (by decide) (fun _ => ?_) (fun z => absurd z (by decide))
  refine lv_iload_n hx hb dX0_row_10 rfl (lv_at hl 0 rfl) ?_
  refine lv_iconst (v := 1) hx hb dX0_row_11 (by decide) ?_
  refine lv_icmp_ne (tgt := 21) hx hb dX0_row_12 (by decide) (fun z => absurd rfl z) (fun _ => ?_)
  refine lv_iload_n hx hb dX0_row_15 rfl (lv_at hl 1 rfl) ?_
  refine zr_newa (atype := .short) (ty := .short) (a0 := (nn, .inl (fun _ => 0))) 3 hx hb (hts _ q555) rfl rfl hK hP hD hS hA (fun _ => rfl) (nI_pos (by omega)) (nI_clamp (by omega)) (by simp only [componentBytes]; omega) (Nat.le_of_ble_eq_true rfl) (by show 0 + nn ≤ 60; omega) dX0_row_16 (fun u H hP hD hS => ?_)
  refine lv_goto (tgt := 35) hx hb dX0_row_18 (by decide) ?_
  exact zr_ena (S := Nat) u hx hb hr hlocks hP hD hS dX0_row_35 rfl trivial (Nat.le_of_ble_eq_true rfl) (by show 0 + nn ≤ 60; omega)
set_option maxHeartbeats 1000000 in
set_option maxRecDepth 100000 in
theorem mt_xk_row2 (l : Launch) (G : zG) (nn : Nat) (hnn : nn ≤ 60) (sz : Nat) : Met l yX0_row (ws_ yX0_row cX0_row 2 (some (.object "java/lang/Object"))) (zR 1 1 60) (zPm G sz [.int 2, .int (nI nn)] []) (zQe G (fun _ : Nat => True) (fun u => some (.ref u)) (fun u => [zrow G 2 u nn (fun _ => 0)]) (va_A [] sz)) 1 60 (va_A [] sz) := by
  refine zr_entE (by decide) (Nat.le_of_ble_eq_true rfl) ?_
  intro p e s m below meth c ⟨hx, hb, hr, hml, hown, hts, hlocks, hnm⟩ ls hl hP hK A hE hA hD hS
  have hl : lv_has ls 2 [(0, .int 2), (1, .int (nI nn))] := hl
  refine lv_iload_n hx hb dX0_row_0 rfl (lv_at hl 0 rfl) ?_
  refine lv_if_ne (tgt := 10) hx hb dX0_row_1 (by decide) (fun _ => ?_) (fun z => absurd z (by decide))
  refine lv_iload_n hx hb dX0_row_10 rfl (lv_at hl 0 rfl) ?_
  refine lv_iconst (v := 1) hx hb dX0_row_11 (by decide) ?_
  refine lv_icmp_ne (tgt := 21) hx hb dX0_row_12 (by decide) (fun _ => ?_) (fun z => absurd z (by decide))
  refine lv_iload_n hx hb dX0_row_21 rfl (lv_at hl 0 rfl) ?_
  refine lv_iconst (v := 2) hx hb dX0_row_22 (by decide) ?_
  refine lv_icmp_ne (tgt := 32) hx hb dX0_row_23 (by decide) (fun z => absurd rfl z) (fun _ => ?_)
  refine lv_iload_n hx hb dX0_row_26 rfl (lv_at hl 1 rfl) ?_
  refine zr_newa (atype := .int) (ty := .int) (a0 := (nn, .inl (fun _ => 0))) 0 hx hb (hts _ q370) rfl rfl hK hP hD hS hA (fun _ => rfl) (nI_pos (by omega)) (nI_clamp (by omega)) (by simp only [componentBytes]; omega) (Nat.le_of_ble_eq_true rfl) (by show 0 + nn ≤ 60; omega) dX0_row_27 (fun u H hP hD hS => ?_)
  refine lv_goto (tgt := 35) hx hb dX0_row_29 (by decide) ?_
  exact zr_ena (S := Nat) u hx hb hr hlocks hP hD hS dX0_row_35 rfl trivial (Nat.le_of_ble_eq_true rfl) (by show 0 + nn ≤ 60; omega)
set_option maxHeartbeats 1000000 in
set_option maxRecDepth 100000 in
theorem mt_xk_row3 (l : Launch) (G : zG) (nn : Nat) (hnn : nn ≤ 60) (sz : Nat) : Met l yX0_row (ws_ yX0_row cX0_row 2 (some (.object "java/lang/Object"))) (zR 1 1 60) (zPm G sz [.int 3, .int (nI nn)] []) (zQe G (fun _ : Nat => True) (fun u => some (.ref u)) (fun u => [zrow G 3 u nn (fun _ => 0)]) (va_A [] sz)) 1 60 (va_A [] sz) := by
  refine zr_entE (by decide) (Nat.le_of_ble_eq_true rfl) ?_
  intro p e s m below meth c ⟨hx, hb, hr, hml, hown, hts, hlocks, hnm⟩ ls hl hP hK A hE hA hD hS
  have hl : lv_has ls 2 [(0, .int 3), (1, .int (nI nn))] := hl
  refine lv_iload_n hx hb dX0_row_0 rfl (lv_at hl 0 rfl) ?_
  refine lv_if_ne (tgt := 10) hx hb dX0_row_1 (by decide) (fun _ => ?_) (fun z => absurd z (by decide))
  refine lv_iload_n hx hb dX0_row_10 rfl (lv_at hl 0 rfl) ?_
  refine lv_iconst (v := 1) hx hb dX0_row_11 (by decide) ?_
  refine lv_icmp_ne (tgt := 21) hx hb dX0_row_12 (by decide) (fun _ => ?_) (fun z => absurd z (by decide))
  refine lv_iload_n hx hb dX0_row_21 rfl (lv_at hl 0 rfl) ?_
  refine lv_iconst (v := 2) hx hb dX0_row_22 (by decide) ?_
  refine lv_icmp_ne (tgt := 32) hx hb dX0_row_23 (by decide) (fun _ => ?_) (fun z => absurd z (by decide))
  refine lv_iload_n hx hb dX0_row_32 rfl (lv_at hl 1 rfl) ?_
  refine zr_newa (atype := .long) (ty := .long) (a0 := (nn, .inr (.inl (fun _ => 0)))) 1 hx hb (hts _ q371) rfl rfl hK hP hD hS hA (fun _ => rfl) (nI_pos (by omega)) (nI_clamp (by omega)) (by simp only [componentBytes]; omega) (Nat.le_of_ble_eq_true rfl) (by show 0 + nn ≤ 60; omega) dX0_row_33 (fun u H hP hD hS => ?_)
  exact zr_ena (S := Nat) u hx hb hr hlocks hP hD hS dX0_row_35 rfl trivial (Nat.le_of_ble_eq_true rfl) (by show 0 + nn ≤ 60; omega)
set_option maxHeartbeats 1000000 in
set_option maxRecDepth 100000 in
theorem mt_rrow (l : Launch) (G : zG) (so nn : Nat) (hso : so ≤ 3) (hnn : nn ≤ 60) (sz : Nat) : Met l yX0_row (ws_ yX0_row cX0_row 2 (some (.object "java/lang/Object"))) (zR 1 1 60) (zPm G sz [.int (nI so), .int (nI nn)] []) (zQe G (fun _ : Nat => True) (fun u => some (.ref u)) (fun u => [zrow G so u nn (fun _ => 0)]) (va_A [] sz)) 1 60 (va_A [] sz) := by
  match so, hso with
  | 0, _ =>
    exact mt_xk_row0 l G nn hnn sz
  | 1, _ =>
    exact mt_xk_row1 l G nn hnn sz
  | 2, _ =>
    exact mt_xk_row2 l G nn hnn sz
  | 3, _ =>
    exact mt_xk_row3 l G nn hnn sz
