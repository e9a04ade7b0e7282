theorem storms_keep (d : Int32) (a r : Nat → Int32) (Wd R : Nat) (n : Int32) (j : Nat) (hj : ¬ j = 3) : (mf_storms d a r Wd R n).2.2.1 j = a j := by
  show (zf (mf_storms_B18 a Wd R n) (d, a, r) (Wd * R)).2.1 j = a j
  refine zf_inv (fun s : Int32 × (Nat → Int32) × (Nat → Int32) => s.2.1 j = a j) ?_ rfl _
  intro k s h
  unfold mf_storms_B18 zlet
  by_cases c : ((((a 3) &&& ((a 4) ^^^ (-1))) >>> ((nI k) &&& 31)) &&& 1) = 0
  · rw [if_pos c]; exact h
  · rw [if_neg c]
    dsimp only
    by_cases c2 : (mf_draw s.1 16).1 < n
    · rw [if_pos c2]; exact (pk_un hj).trans h
    · rw [if_neg c2]; exact h
theorem isBorn_keep (d : Int32) (a r : Nat → Int32) (Wd R : Nat) (j : Nat) (hj : ¬ j = 3) : (mf_isBorn d a r Wd R).2.2.1 j = a j := by
  unfold mf_isBorn zlet
  dsimp only
  split
  · rfl
  · exact pk_un hj
theorem elects_keep (a b : Nat → Int32) (Wd R nr nc : Nat) (j : Nat) (hj : ¬ j = 10) : (mf_elects a b Wd R nr nc).2.1 j = a j := by
  unfold mf_elects zlet
  split
  · rfl
  · split
    · rfl
    · exact pk_un hj
theorem does_keep {d : Int32} {a b r : Nat → Int32} {Wd R nr nc kk : Nat} (hW : Wd < 6) (hR : R < 7) (hWR : Wd * R ≤ 30) (j : Nat) (hj : 44 ≤ j) : (mf_does d a b r Wd R nr nc kk).2.2.1 j = a j := by
  unfold mf_does zlet
  split
  · show (zf (mf_does_B54 a Wd R kk) (a, b) _).1 j = a j
    refine zf_inv (fun s : (Nat → Int32) × (Nat → Int32) => s.1 j = a j) ?_ rfl _
    intro k s h
    exact (mf_goes_keep hW hR hWR j (Or.inr hj)).trans h
  · split
    · split
      · exact pk_un (by omega)
      · rfl
    · split
      · exact pk_un (by omega)
      · split
        · exact elects_keep _ _ _ _ _ _ j (by omega)
        · split
          · exact storms_keep _ _ _ _ _ _ j (by omega)
          · split
            · exact isBorn_keep _ _ _ _ _ j (by omega)
            · rfl
theorem lives_keep {a be lo ra : Nat → Int32} {Wd R nr nc nn : Nat} {seed : Int32} (hW : Wd < 6) (hR : R < 7) (hWR : Wd * R ≤ 30) (j : Nat) (hj : 44 ≤ j) : (mf_lives a be lo ra Wd R nr nc nn seed).2.2.1 j = a j := by
  have key : ∀ s0, s0.2.2.2.1 j = a j → ∀ n s, s.2.2.2.1 j = a j → Sum.elim (fun t : Nat × Int32 × Nat × (Nat → Int32) × (Nat → Int32) × (Nat → Int32) × (Nat → Int32) => t.2.2.2.1 j = a j) (fun r : Int32 × Int32 × (Nat → Int32) × (Nat → Int32) × (Nat → Int32) × (Nat → Int32) => r.2.2.1 j = a j) (zw (mf_lives_B32 Wd R nr nc nn) (.inl s0) n s) := by
    intro s0 hs0
    refine fun n s h => zw_inv (fun s : (Nat × Int32 × Nat × (Nat → Int32) × (Nat → Int32) × (Nat → Int32) × (Nat → Int32)) => s.2.2.2.1 j = a j) (Sum.elim (fun t : (Nat × Int32 × Nat × (Nat → Int32) × (Nat → Int32) × (Nat → Int32) × (Nat → Int32)) => t.2.2.2.1 j = a j) (fun r : Int32 × Int32 × (Nat → Int32) × (Nat → Int32) × (Nat → Int32) × (Nat → Int32) => r.2.2.1 j = a j)) ?_ ?_ (by exact hs0) n s h
    · intro s s' h hs
      unfold mf_lives_B32 zlet at hs
      have hd := fun d => (does_keep (d := s.2.1) (a := s.2.2.2.1) (b := s.2.2.2.2.1) (r := s.2.2.2.2.2.2) (nr := nr) (nc := nc) (kk := d) hW hR hWR j hj).trans h
      dsimp only at hs
      repeat' (first | (cases hs; exact hd _) | split at hs | (cases hs; done))
    · intro s r h hs
      unfold mf_lives_B32 zlet at hs
      dsimp only at hs
      repeat' (first | (cases hs; exact h) | split at hs | (cases hs; done))
  have h := key (0, seed, 0, a, be, lo, mf_lives_L12 ra) rfl (300 - 0 + 1) (0, seed, 0, a, be, lo, mf_lives_L12 ra) rfl
  show (zcase (zw (mf_lives_B32 Wd R nr nc nn) (.inl (0, seed, 0, a, be, lo, mf_lives_L12 ra)) (300 - 0 + 1) (0, seed, 0, a, be, lo, mf_lives_L12 ra)) (fun t_2 => (t_2.2.1, nI t_2.2.2.1, t_2.2.2.2.1, t_2.2.2.2.2.1, t_2.2.2.2.2.2.1, t_2.2.2.2.2.2.2)) (fun r => r)).2.2.1 j = a j
  generalize zw (mf_lives_B32 Wd R nr nc nn) (.inl (0, seed, 0, a, be, lo, mf_lives_L12 ra)) (300 - 0 + 1) (0, seed, 0, a, be, lo, mf_lives_L12 ra) = z at h ⊢
  cases z with
  | inl t => exact h
  | inr r => exact h
def mf_mean_B61  (k_7 : Nat) (s_7 : (Nat → Int32)) : (Nat → Int32) :=
  upd s_7 (2050 + k_7) (s_7 k_7)
def mf_mean_L61  (s_7 : (Nat → Int32)) : (Nat → Int32) := zf (mf_mean_B61 ) s_7 44
def mf_mean_B124  (k_10 : Nat) (s_10 : (Nat → Int32)) : (Nat → Int32) :=
  upd s_10 k_10 (s_10 (2050 + k_10))
def mf_mean_L124  (s_10 : (Nat → Int32)) : (Nat → Int32) := zf (mf_mean_B124 ) s_10 44
def mf_mean_B94 (Wd : Nat) (R : Nat) (nr : Nat) (nc : Nat) (nn : Nat) (seed : Int32) (many : Int32) (k_8 : Nat) (s_8 : Nat × Int32 × Int32 × (Nat → Int32) × (Nat → Int32) × (Nat → Int32) × (Nat → Int32)) : Nat × Int32 × Int32 × (Nat → Int32) × (Nat → Int32) × (Nat → Int32) × (Nat → Int32) :=
  zlet (mf_lives s_8.2.2.2.1 s_8.2.2.2.2.1 s_8.2.2.2.2.2.1 s_8.2.2.2.2.2.2 Wd R nr nc nn (seed + (nI k_8))) (fun t_9 =>
  zlet (mf_mean_L124  t_9.2.2.1) (fun s_10 =>
  (s_8.1 + (zpc (t_9.2.2.1 3)), t_9.1, t_9.2.1, s_10, t_9.2.2.2.1, t_9.2.2.2.2.1, t_9.2.2.2.2.2)))
def mf_mean_L94 (Wd : Nat) (R : Nat) (nr : Nat) (nc : Nat) (nn : Nat) (seed : Int32) (many : Int32) (s_8 : Nat × Int32 × Int32 × (Nat → Int32) × (Nat → Int32) × (Nat → Int32) × (Nat → Int32)) : Nat × Int32 × Int32 × (Nat → Int32) × (Nat → Int32) × (Nat → Int32) × (Nat → Int32) := zf (mf_mean_B94 Wd R nr nc nn seed many) s_8 many.toNatClampNeg
def mf_mean (m_top : Int64) (m_bottom : Int64) (m_drawn : Int32) (m_ranSteps : Int32) (m_at : Nat → Int32) (m_beside : Nat → Int32) (m_loops : Nat → Int32) (m_ran : Nat → Int32) (Wd : Nat) (R : Nat) (nr : Nat) (nc : Nat) (nn : Nat) (seed : Int32) (many : Int32) : Bool × Int32 × Int64 × Int64 × Int32 × Int32 × (Nat → Int32) × (Nat → Int32) × (Nat → Int32) × (Nat → Int32) :=
  (if (mf_isFrom seed.toInt64 0 9999) = true then
    (if (mf_isFrom many.toInt64 1 20) = true then
      (if ((seed + many) - 1) ≤ 9999 then
        (if (m_at 11) = (-1) then
          (false, 6, m_top, m_bottom, m_drawn, m_ranSteps, m_at, m_beside, m_loops, m_ran)
        else
          zlet (mf_mean_L61  m_at) (fun s_7 =>
          zlet (mf_mean_L94 Wd R nr nc nn seed many (0, m_drawn, m_ranSteps, s_7, m_beside, m_loops, m_ran)) (fun s_8 =>
          zlet (mf_tellsBy s_8.1 many.toNatClampNeg) (fun t_11 =>
          (t_11.1, t_11.2.1, t_11.2.2.1, t_11.2.2.2, s_8.2.1, s_8.2.2.1, s_8.2.2.2.1, s_8.2.2.2.2.1, s_8.2.2.2.2.2.1, s_8.2.2.2.2.2.2)))))
      else
        (false, 1, m_top, m_bottom, m_drawn, m_ranSteps, m_at, m_beside, m_loops, m_ran))
    else
      (false, 1, m_top, m_bottom, m_drawn, m_ranSteps, m_at, m_beside, m_loops, m_ran))
  else
    (false, 1, m_top, m_bottom, m_drawn, m_ranSteps, m_at, m_beside, m_loops, m_ran))
theorem hd_X7_mean : yX7_mean.cls = RX7 ∧ yX7_mean.cls ≠ "java/lang/invoke/MethodHandle" ∧ yX7_mean.cls ≠ "java/lang/invoke/VarHandle" ∧ (parseMethodDescriptor yX7_mean.desc).map (fun d => d.parameters.length) = some 2 := by decide +kernel
set_option maxHeartbeats 4000000 in
set_option maxRecDepth 100000 in
theorem mt_mf_mean (l : Launch) (G : zG) (ad : Nat → Nat) (m_status : Int32) (m_top : Int64) (m_bottom : Int64) (m_taped : Int32) (m_size : Int32) (m_token : Int32) (m_from : Int32) (m_end : Int32) (m_value : Int32) (m_faultKind : Int32) (m_faultPlace : Int32) (m_faults : Int32) (m_seen : Int32) (m_depth : Int32) (m_counted : Int32) (m_lead : Int32) (m_round : Int32) (m_tried : Int32) (m_triedMany : Int32) (m_drawn : Int32) (m_ranSteps : Int32) (m_isTold : Bool) (m_marks : Int32) (m_at : Nat → Int32) (m_names : Nat → Int64) (m_sort : Nat → Int32) (m_trayMany : Nat → Int32) (m_trays : Nat → Int64) (m_tape : Nat → Int32) (m_text : Nat → Int32) (m_opened : Nat → Int32) (m_beside : Nat → Int32) (m_then : Nat → Int32) (m_ways : Nat → Int64) (m_further : Nat → Int64) (m_canBe : Nat → Int32) (m_loops : Nat → Int32) (m_ran : Nat → Int32) (m_told0 : Nat → Int32) (Wd : Nat) (R : Nat) (nr : Nat) (nc : Nat) (nn : Nat) (seed : Int32) (many : Int32) (hV : mLV m_at Wd R nr nc nn) (hL : mLP m_loops) (sz : Nat) : Met l yX7_mean (ws_ yX7_mean cX7_mean 7 (some .boolean)) (zR 9 0 0) (zPm G sz [.ref (ad 0), .int seed, .int many] (mW G ad m_status m_top m_bottom m_taped m_size m_token m_from m_end m_value m_faultKind m_faultPlace m_faults m_seen m_depth m_counted m_lead m_round m_tried m_triedMany m_drawn m_ranSteps m_isTold m_marks m_at m_names m_sort m_trayMany m_trays m_tape m_text m_opened m_beside m_then m_ways m_further m_canBe m_loops m_ran m_told0)) (zQm G (mLP ((mf_mean m_top m_bottom m_drawn m_ranSteps m_at m_beside m_loops m_ran Wd R nr nc nn seed many).2.2.2.2.2.2.2.2.1) ) (some (.int (zb ((mf_mean m_top m_bottom m_drawn m_ranSteps m_at m_beside m_loops m_ran Wd R nr nc nn seed many).1)))) (mW G ad ((mf_mean m_top m_bottom m_drawn m_ranSteps m_at m_beside m_loops m_ran Wd R nr nc nn seed many).2.1) ((mf_mean m_top m_bottom m_drawn m_ranSteps m_at m_beside m_loops m_ran Wd R nr nc nn seed many).2.2.1) ((mf_mean m_top m_bottom m_drawn m_ranSteps m_at m_beside m_loops m_ran Wd R nr nc nn seed many).2.2.2.1) m_taped m_size m_token m_from m_end m_value m_faultKind m_faultPlace m_faults m_seen m_depth m_counted m_lead m_round m_tried m_triedMany ((mf_mean m_top m_bottom m_drawn m_ranSteps m_at m_beside m_loops m_ran Wd R nr nc nn seed many).2.2.2.2.1) ((mf_mean m_top m_bottom m_drawn m_ranSteps m_at m_beside m_loops m_ran Wd R nr nc nn seed many).2.2.2.2.2.1) m_isTold m_marks ((mf_mean m_top m_bottom m_drawn m_ranSteps m_at m_beside m_loops m_ran Wd R nr nc nn seed many).2.2.2.2.2.2.1) m_names m_sort m_trayMany m_trays m_tape m_text m_opened ((mf_mean m_top m_bottom m_drawn m_ranSteps m_at m_beside m_loops m_ran Wd R nr nc nn seed many).2.2.2.2.2.2.2.1) m_then m_ways m_further m_canBe ((mf_mean m_top m_bottom m_drawn m_ranSteps m_at m_beside m_loops m_ran Wd R nr nc nn seed many).2.2.2.2.2.2.2.2.1) ((mf_mean m_top m_bottom m_drawn m_ranSteps m_at m_beside m_loops m_ran Wd R nr nc nn seed many).2.2.2.2.2.2.2.2.2) m_told0) (va_A (mW G ad m_status m_top m_bottom m_taped m_size m_token m_from m_end m_value m_faultKind m_faultPlace m_faults m_seen m_depth m_counted m_lead m_round m_tried m_triedMany m_drawn m_ranSteps m_isTold m_marks m_at m_names m_sort m_trayMany m_trays m_tape m_text m_opened m_beside m_then m_ways m_further m_canBe m_loops m_ran m_told0) sz)) 0 0 (va_A (mW G ad m_status m_top m_bottom m_taped m_size m_token m_from m_end m_value m_faultKind m_faultPlace m_faults m_seen m_depth m_counted m_lead m_round m_tried m_triedMany m_drawn m_ranSteps m_isTold m_marks m_at m_names m_sort m_trayMany m_trays m_tape m_text m_opened m_beside m_then m_ways m_further m_canBe m_loops m_ran m_told0) sz) := by
  refine zr_entM (by decide) (Nat.le_of_ble_eq_true rfl) ?_
  intro p e s m below meth c ⟨hx, hb, hr, hml, hown, hts, hlocks, hnm⟩ ls hl hP hK A hE hA hD hS
  have hown : s.vm.findClass RX7 = some m.cls := hown
  have hl : lv_has ls 7 [(0, .ref (ad 0)), (1, .int seed), (2, .int many)] := hl
  obtain ⟨H, hH⟩ : ∃ H, H = s.heap := ⟨_, rfl⟩
  obtain ⟨locs, hlo⟩ : ∃ L : List Loc, L = [] := ⟨_, rfl⟩
  rw [← hH] at hP
  have hS : va_S A s.heap H locs := by rw [hH, hlo]; exact va_S.rf
  have hgo : W p l e (zR 9 0 0) s m ([.ref (ad 0), .int seed, .int many] : List Value).toArray below meth c H locs 0 0 (MQ below (zQm G (mLP ((mf_mean m_top m_bottom m_drawn m_ranSteps m_at m_beside m_loops m_ran Wd R nr nc nn seed many).2.2.2.2.2.2.2.2.1) ) (some (.int (zb ((mf_mean m_top m_bottom m_drawn m_ranSteps m_at m_beside m_loops m_ran Wd R nr nc nn seed many).1)))) (mW G ad ((mf_mean m_top m_bottom m_drawn m_ranSteps m_at m_beside m_loops m_ran Wd R nr nc nn seed many).2.1) ((mf_mean m_top m_bottom m_drawn m_ranSteps m_at m_beside m_loops m_ran Wd R nr nc nn seed many).2.2.1) ((mf_mean m_top m_bottom m_drawn m_ranSteps m_at m_beside m_loops m_ran Wd R nr nc nn seed many).2.2.2.1) m_taped m_size m_token m_from m_end m_value m_faultKind m_faultPlace m_faults m_seen m_depth m_counted m_lead m_round m_tried m_triedMany ((mf_mean m_top m_bottom m_drawn m_ranSteps m_at m_beside m_loops m_ran Wd R nr nc nn seed many).2.2.2.2.1) ((mf_mean m_top m_bottom m_drawn m_ranSteps m_at m_beside m_loops m_ran Wd R nr nc nn seed many).2.2.2.2.2.1) m_isTold m_marks ((mf_mean m_top m_bottom m_drawn m_ranSteps m_at m_beside m_loops m_ran Wd R nr nc nn seed many).2.2.2.2.2.2.1) m_names m_sort m_trayMany m_trays m_tape m_text m_opened ((mf_mean m_top m_bottom m_drawn m_ranSteps m_at m_beside m_loops m_ran Wd R nr nc nn seed many).2.2.2.2.2.2.2.1) m_then m_ways m_further m_canBe ((mf_mean m_top m_bottom m_drawn m_ranSteps m_at m_beside m_loops m_ran Wd R nr nc nn seed many).2.2.2.2.2.2.2.2.1) ((mf_mean m_top m_bottom m_drawn m_ranSteps m_at m_beside m_loops m_ran Wd R nr nc nn seed many).2.2.2.2.2.2.2.2.2) m_told0) A) ([.ref (ad 0), .int seed, .int many] : List Value).toArray s 0 0 A) (F0 m 0 ls []) := ?_
  · rw [hH, hlo] at hgo; exact hgo
  clear hH hlo
  have hG := hV.1
  have hWR := mOK_WR hG
  have hW0 := mOK_W0 hG
  have hW5 := mOK_W5 hG
  have hR0 := mOK_R0 hG
  have hR6 := mOK_R6 hG
  have hn4 := mOK_n4 hG
  have hc6 := mOK_c6 hG
  refine lv_iload_n hx hb dX7_mean_0 rfl (lv_at hl 1 rfl) ?_
  refine lv_i2l hx hb dX7_mean_1 rfl ?_
  refine lv_lconst (v := 0) hx hb dX7_mean_2 rfl ?_
  refine lv_ldc2 (v := 9999) hx hb hown (hts _ q1942) dX7_mean_3 ?_
  refine zr_puS ⟨hx, hb, hml, hown, hts⟩ (mt_mf_isFrom l seed.toInt64 0 9999) (va_cwS 3 hts (lw_S q1848 q1849 q144 q1850) rfl rfl rfl hd_X7_isFrom.2 ⟨(Nat.le_of_ble_eq_true rfl), (Nat.le_of_ble_eq_true rfl)⟩) rfl hl.1 rfl (Nat.le_of_ble_eq_true rfl) dX7_mean_6 ⟨Nat.le_refl _, Nat.le_refl _⟩ ?_
  refine zr_eqB (mf_isFrom seed.toInt64 0 9999) (tgt := 35) hx hb dX7_mean_9 (by decide) (fun c_1 => ?_) (fun c_1 => ?_)
  · refine lv_aload_n hx hb dX7_mean_35 rfl (lv_at hl 0 rfl) ?_
    refine lv_iconst (v := 1) hx hb dX7_mean_36 (by decide) ?_
    refine zr_muV (F := ()) (ff := fun _ => True) (rr := fun _ => some (.int (zb (decide ((1 : Int32) = 0))))) (w1 := fun _ => (mW G ad 1 m_top m_bottom m_taped m_size m_token m_from m_end m_value m_faultKind m_faultPlace m_faults m_seen m_depth m_counted m_lead m_round m_tried m_triedMany m_drawn m_ranSteps m_isTold m_marks m_at m_names m_sort m_trayMany m_trays m_tape m_text m_opened m_beside m_then m_ways m_further m_canBe m_loops m_ran m_told0)) ⟨hx, hb, hml, hown, hts⟩ (mt_mf_is l G ad m_status m_top m_bottom m_taped m_size m_token m_from m_end m_value m_faultKind m_faultPlace m_faults m_seen m_depth m_counted m_lead m_round m_tried m_triedMany m_drawn m_ranSteps m_isTold m_marks m_at m_names m_sort m_trayMany m_trays m_tape m_text m_opened m_beside m_then m_ways m_further m_canBe m_loops m_ran m_told0 1 H.size) (cwV 1 hts (lw_V q1604 q1606 qs60 q144 q1607) rfl rfl rfl hd_X7_is ⟨(Nat.le_of_ble_eq_true rfl), (Nat.le_of_ble_eq_true rfl)⟩) hP hD hS hA hK hE 0 7 rfl rfl rfl hl.1 rfl (Nat.le_of_ble_eq_true rfl) dX7_mean_37 ⟨Nat.le_refl _, Nat.le_refl _⟩ (fun _ _ _ H locs hP hD hS _ => ?_)
    refine W.eq (g2 := F0 m 40 ls [.int (zb (decide ((1 : Int32) = 0)))]) rfl ?_
    refine zr_val (v' := .int 0) (congrArg Value.int (by decide)) ?_
    have e_ : mf_mean m_top m_bottom m_drawn m_ranSteps m_at m_beside m_loops m_ran Wd R nr nc nn seed many = (false, 1, m_top, m_bottom, m_drawn, m_ranSteps, m_at, m_beside, m_loops, m_ran) := by rw [mf_mean, if_neg c_1]
    exact zr_mz hx hb hr hlocks hP hD hS dX7_mean_40 rfl (by rw [e_]; rfl) (by rw [e_]) (by rw [e_]; exact hL)
  · refine lv_iload_n hx hb dX7_mean_12 rfl (lv_at hl 2 rfl) ?_
    refine lv_i2l hx hb dX7_mean_13 rfl ?_
    refine lv_lconst (v := 1) hx hb dX7_mean_14 rfl ?_
    refine lv_ldc2 (v := 20) hx hb hown (hts _ q2143) dX7_mean_15 ?_
    refine zr_puS ⟨hx, hb, hml, hown, hts⟩ (mt_mf_isFrom l many.toInt64 1 20) (va_cwS 3 hts (lw_S q1848 q1849 q144 q1850) rfl rfl rfl hd_X7_isFrom.2 ⟨(Nat.le_of_ble_eq_true rfl), (Nat.le_of_ble_eq_true rfl)⟩) rfl hl.1 rfl (Nat.le_of_ble_eq_true rfl) dX7_mean_18 ⟨Nat.le_refl _, Nat.le_refl _⟩ ?_
    refine zr_eqB (mf_isFrom many.toInt64 1 20) (tgt := 35) hx hb dX7_mean_21 (by decide) (fun c_3 => ?_) (fun c_3 => ?_)
    · refine lv_aload_n hx hb dX7_mean_35 rfl (lv_at hl 0 rfl) ?_
      refine lv_iconst (v := 1) hx hb dX7_mean_36 (by decide) ?_
      refine zr_muV (F := ()) (ff := fun _ => True) (rr := fun _ => some (.int (zb (decide ((1 : Int32) = 0))))) (w1 := fun _ => (mW G ad 1 m_top m_bottom m_taped m_size m_token m_from m_end m_value m_faultKind m_faultPlace m_faults m_seen m_depth m_counted m_lead m_round m_tried m_triedMany m_drawn m_ranSteps m_isTold m_marks m_at m_names m_sort m_trayMany m_trays m_tape m_text m_opened m_beside m_then m_ways m_further m_canBe m_loops m_ran m_told0)) ⟨hx, hb, hml, hown, hts⟩ (mt_mf_is l G ad m_status m_top m_bottom m_taped m_size m_token m_from m_end m_value m_faultKind m_faultPlace m_faults m_seen m_depth m_counted m_lead m_round m_tried m_triedMany m_drawn m_ranSteps m_isTold m_marks m_at m_names m_sort m_trayMany m_trays m_tape m_text m_opened m_beside m_then m_ways m_further m_canBe m_loops m_ran m_told0 1 H.size) (cwV 1 hts (lw_V q1604 q1606 qs60 q144 q1607) rfl rfl rfl hd_X7_is ⟨(Nat.le_of_ble_eq_true rfl), (Nat.le_of_ble_eq_true rfl)⟩) hP hD hS hA hK hE 0 7 rfl rfl rfl hl.1 rfl (Nat.le_of_ble_eq_true rfl) dX7_mean_37 ⟨Nat.le_refl _, Nat.le_refl _⟩ (fun _ _ _ H locs hP hD hS _ => ?_)
      refine W.eq (g2 := F0 m 40 ls [.int (zb (decide ((1 : Int32) = 0)))]) rfl ?_
      refine zr_val (v' := .int 0) (congrArg Value.int (by decide)) ?_
      have e_ : mf_mean m_top m_bottom m_drawn m_ranSteps m_at m_beside m_loops m_ran Wd R nr nc nn seed many = (false, 1, m_top, m_bottom, m_drawn, m_ranSteps, m_at, m_beside, m_loops, m_ran) := by rw [mf_mean, if_pos c_1, if_neg c_3]
      exact zr_mz hx hb hr hlocks hP hD hS dX7_mean_40 rfl (by rw [e_]; rfl) (by rw [e_]) (by rw [e_]; exact hL)
    · obtain ⟨hm0, hm1, hm2⟩ := isFrom_t (x := many) (a := 1) (N := 20) (by decide) (by decide) c_3
      refine lv_iload_n hx hb dX7_mean_24 rfl (lv_at hl 1 rfl) ?_
      refine lv_iload_n hx hb dX7_mean_25 rfl (lv_at hl 2 rfl) ?_
      refine lv_iadd hx hb dX7_mean_26 ?_
      refine lv_iconst (v := 1) hx hb dX7_mean_27 (by decide) ?_
      refine lv_isub hx hb dX7_mean_28 ?_
      refine lv_sipush (v := 9999) hx hb dX7_mean_29 (by decide) ?_
      refine lv_icmp_le (tgt := 41) hx hb dX7_mean_32 (by decide) (fun c_5 => ?_) (fun c_5 => ?_)
      · refine lv_aload_n hx hb dX7_mean_41 rfl (lv_at hl 0 rfl) ?_
        refine va_get (D := G.1) (ci := 7) (v := .ref (ad 1)) (C := RX7) (T := TX7) (N := 39) hx hb hts in_X7 hown hK.1 hP 0 rfl rfl 0 (Nat.le_of_ble_eq_true rfl) (hts _ q1467) (fun _ h => h) rfl dX7_mean_42 ?_
        refine lv_bipush (v := 11) hx hb dX7_mean_45 (by decide) ?_
        refine zr_iald 11 (v := m_at 11) hx hb hK hP 1 rfl rfl (Nat.le_of_ble_eq_true rfl) rfl (by decide) rfl dX7_mean_47 ?_
        refine lv_iconst (v := (-1)) hx hb dX7_mean_48 (by decide) ?_
        refine lv_icmp_ne (tgt := 59) hx hb dX7_mean_49 (by decide) (fun c_6 => ?_) (fun c_6 => ?_)
        · have hYr := hV.2.resolve_left c_6
          have hl : lv_has ls 7 [(0, .ref (ad 0)), (1, .int seed), (2, .int (nI many.toNatClampNeg))] := by rw [← (z_nn hm0 : many = nI many.toNatClampNeg)]; exact hl
          refine lv_iconst (v := 0) hx hb dX7_mean_59 (by decide) ?_
          refine lv_istore_n (lv' := [(3, .int 0), (0, .ref (ad 0)), (1, .int seed), (2, .int (nI many.toNatClampNeg))]) hx hb dX7_mean_60 rfl hl (by decide) rfl (fun ls hl => ?_)
          have hlp_7 : ∀ (n k_7 : Nat) (s_7 : (Nat → Int32)), k_7 ≤ 44 → 44 < k_7 + n → zf (mf_mean_B61 ) m_at k_7 = s_7 → (∀ j, j < 2050 → s_7 j = m_at j) → (∀ j, j < k_7 → s_7 (2050 + j) = m_at j) → ∀ (H : Heap) (locs : List Loc), va_P G.1 zcl (mW G ad m_status m_top m_bottom m_taped m_size m_token m_from m_end m_value m_faultKind m_faultPlace m_faults m_seen m_depth m_counted m_lead m_round m_tried m_triedMany m_drawn m_ranSteps m_isTold m_marks s_7 m_names m_sort m_trayMany m_trays m_tape m_text m_opened m_beside m_then m_ways m_further m_canBe m_loops m_ran m_told0) H → va_D A (mW G ad m_status m_top m_bottom m_taped m_size m_token m_from m_end m_value m_faultKind m_faultPlace m_faults m_seen m_depth m_counted m_lead m_round m_tried m_triedMany m_drawn m_ranSteps m_isTold m_marks s_7 m_names m_sort m_trayMany m_trays m_tape m_text m_opened m_beside m_then m_ways m_further m_canBe m_loops m_ran m_told0) → va_S A s.heap H locs → ∀ ls : Array Slot, lv_has ls 7 [(3, .int (nI k_7)), (0, .ref (ad 0)), (1, .int seed), (2, .int (nI many.toNatClampNeg))] → W p l e (zR 9 0 0) s m ([.ref (ad 0), .int seed, .int many] : List Value).toArray below meth c H locs 0 0 (MQ below (zQm G (mLP ((mf_mean m_top m_bottom m_drawn m_ranSteps m_at m_beside m_loops m_ran Wd R nr nc nn seed many).2.2.2.2.2.2.2.2.1) ) (some (.int (zb ((mf_mean m_top m_bottom m_drawn m_ranSteps m_at m_beside m_loops m_ran Wd R nr nc nn seed many).1)))) (mW G ad ((mf_mean m_top m_bottom m_drawn m_ranSteps m_at m_beside m_loops m_ran Wd R nr nc nn seed many).2.1) ((mf_mean m_top m_bottom m_drawn m_ranSteps m_at m_beside m_loops m_ran Wd R nr nc nn seed many).2.2.1) ((mf_mean m_top m_bottom m_drawn m_ranSteps m_at m_beside m_loops m_ran Wd R nr nc nn seed many).2.2.2.1) m_taped m_size m_token m_from m_end m_value m_faultKind m_faultPlace m_faults m_seen m_depth m_counted m_lead m_round m_tried m_triedMany ((mf_mean m_top m_bottom m_drawn m_ranSteps m_at m_beside m_loops m_ran Wd R nr nc nn seed many).2.2.2.2.1) ((mf_mean m_top m_bottom m_drawn m_ranSteps m_at m_beside m_loops m_ran Wd R nr nc nn seed many).2.2.2.2.2.1) m_isTold m_marks ((mf_mean m_top m_bottom m_drawn m_ranSteps m_at m_beside m_loops m_ran Wd R nr nc nn seed many).2.2.2.2.2.2.1) m_names m_sort m_trayMany m_trays m_tape m_text m_opened ((mf_mean m_top m_bottom m_drawn m_ranSteps m_at m_beside m_loops m_ran Wd R nr nc nn seed many).2.2.2.2.2.2.2.1) m_then m_ways m_further m_canBe ((mf_mean m_top m_bottom m_drawn m_ranSteps m_at m_beside m_loops m_ran Wd R nr nc nn seed many).2.2.2.2.2.2.2.2.1) ((mf_mean m_top m_bottom m_drawn m_ranSteps m_at m_beside m_loops m_ran Wd R nr nc nn seed many).2.2.2.2.2.2.2.2.2) m_told0) A) ([.ref (ad 0), .int seed, .int many] : List Value).toArray s 0 0 A) (F0 m 61 ls []) := by
            intro n
            induction n with
            | zero => intro k_7 s_7 h1 h2; exact absurd h2 (by omega)
            | succ n ih_7 =>
              intro k_7 s_7 hk_7 hn_7 hst_7 hc1 hc2 H locs hP hD hS ls hl
              refine lv_iload_n hx hb dX7_mean_61 rfl (lv_at hl 0 rfl) ?_
              refine lv_bipush (v := 44) hx hb dX7_mean_62 (by decide) ?_
              refine zr_ge k_7 44 (by omega) (by decide) (tgt := 89) hx hb dX7_mean_64 (by decide) (fun c_7 => ?_) (fun c_7 => ?_)
              · have ek_7 : k_7 = 44 := Nat.le_antisymm hk_7 c_7
                have hs_7 : mf_mean_L61  m_at = s_7 := by rw [ek_7] at hst_7; exact hst_7
                have hl := lv_sub hl (l' := _) [1, 2, 3] rfl
                have hc3 : ∀ j, j < 44 → s_7 (2050 + j) = m_at j := fun j hj => hc2 j (by omega)
                refine lv_lconst (v := 0) hx hb dX7_mean_89 rfl ?_
                refine lv_lstore_n (lv' := [(3, .long 0), (0, .ref (ad 0)), (1, .int seed), (2, .int (nI many.toNatClampNeg))]) hx hb dX7_mean_90 rfl hl (by decide) rfl (fun ls hl => ?_)
                refine lv_iconst (v := 0) hx hb dX7_mean_91 (by decide) ?_
                refine lv_istore (lv' := [(5, .int 0), (3, .long 0), (0, .ref (ad 0)), (1, .int seed), (2, .int (nI many.toNatClampNeg))]) hx hb dX7_mean_92 hl (by decide) rfl (fun ls hl => ?_)
                have hlp_8 : ∀ (n k_8 : Nat) (s_8 : Nat × Int32 × Int32 × (Nat → Int32) × (Nat → Int32) × (Nat → Int32) × (Nat → Int32)), k_8 ≤ many.toNatClampNeg → many.toNatClampNeg < k_8 + n → zf (mf_mean_B94 Wd R nr nc nn seed many) (0, m_drawn, m_ranSteps, s_7, m_beside, m_loops, m_ran) k_8 = s_8 → s_8.1 ≤ 32 * k_8 → ((∀ j, j < 404 → s_8.2.2.2.1 j = m_at j) ∧ (∀ j, j < 44 → s_8.2.2.2.1 (2050 + j) = m_at j)) → mLP s_8.2.2.2.2.2.1  → ∀ (H : Heap) (locs : List Loc), va_P G.1 zcl (mW G ad m_status m_top m_bottom m_taped m_size m_token m_from m_end m_value m_faultKind m_faultPlace m_faults m_seen m_depth m_counted m_lead m_round m_tried m_triedMany s_8.2.1 s_8.2.2.1 m_isTold m_marks s_8.2.2.2.1 m_names m_sort m_trayMany m_trays m_tape m_text m_opened s_8.2.2.2.2.1 m_then m_ways m_further m_canBe s_8.2.2.2.2.2.1 s_8.2.2.2.2.2.2 m_told0) H → va_D A (mW G ad m_status m_top m_bottom m_taped m_size m_token m_from m_end m_value m_faultKind m_faultPlace m_faults m_seen m_depth m_counted m_lead m_round m_tried m_triedMany s_8.2.1 s_8.2.2.1 m_isTold m_marks s_8.2.2.2.1 m_names m_sort m_trayMany m_trays m_tape m_text m_opened s_8.2.2.2.2.1 m_then m_ways m_further m_canBe s_8.2.2.2.2.2.1 s_8.2.2.2.2.2.2 m_told0) → va_S A s.heap H locs → ∀ ls : Array Slot, lv_has ls 7 [(5, .int (nI k_8)), (3, .long (lN s_8.1)), (0, .ref (ad 0)), (1, .int seed), (2, .int (nI many.toNatClampNeg))] → W p l e (zR 9 0 0) s m ([.ref (ad 0), .int seed, .int many] : List Value).toArray below meth c H locs 0 0 (MQ below (zQm G (mLP ((mf_mean m_top m_bottom m_drawn m_ranSteps m_at m_beside m_loops m_ran Wd R nr nc nn seed many).2.2.2.2.2.2.2.2.1) ) (some (.int (zb ((mf_mean m_top m_bottom m_drawn m_ranSteps m_at m_beside m_loops m_ran Wd R nr nc nn seed many).1)))) (mW G ad ((mf_mean m_top m_bottom m_drawn m_ranSteps m_at m_beside m_loops m_ran Wd R nr nc nn seed many).2.1) ((mf_mean m_top m_bottom m_drawn m_ranSteps m_at m_beside m_loops m_ran Wd R nr nc nn seed many).2.2.1) ((mf_mean m_top m_bottom m_drawn m_ranSteps m_at m_beside m_loops m_ran Wd R nr nc nn seed many).2.2.2.1) m_taped m_size m_token m_from m_end m_value m_faultKind m_faultPlace m_faults m_seen m_depth m_counted m_lead m_round m_tried m_triedMany ((mf_mean m_top m_bottom m_drawn m_ranSteps m_at m_beside m_loops m_ran Wd R nr nc nn seed many).2.2.2.2.1) ((mf_mean m_top m_bottom m_drawn m_ranSteps m_at m_beside m_loops m_ran Wd R nr nc nn seed many).2.2.2.2.2.1) m_isTold m_marks ((mf_mean m_top m_bottom m_drawn m_ranSteps m_at m_beside m_loops m_ran Wd R nr nc nn seed many).2.2.2.2.2.2.1) m_names m_sort m_trayMany m_trays m_tape m_text m_opened ((mf_mean m_top m_bottom m_drawn m_ranSteps m_at m_beside m_loops m_ran Wd R nr nc nn seed many).2.2.2.2.2.2.2.1) m_then m_ways m_further m_canBe ((mf_mean m_top m_bottom m_drawn m_ranSteps m_at m_beside m_loops m_ran Wd R nr nc nn seed many).2.2.2.2.2.2.2.2.1) ((mf_mean m_top m_bottom m_drawn m_ranSteps m_at m_beside m_loops m_ran Wd R nr nc nn seed many).2.2.2.2.2.2.2.2.2) m_told0) A) ([.ref (ad 0), .int seed, .int many] : List Value).toArray s 0 0 A) (F0 m 94 ls []) := by
                  intro n
                  induction n with
                  | zero => intro k_8 s_8 h1 h2; exact absurd h2 (by omega)
                  | succ n ih_8 =>
                    intro k_8 s_8 hk_8 hn_8 hst_8 hn3 hmv ok_8_m_loops H locs hP hD hS ls hl
                    refine lv_iload hx hb dX7_mean_94 (lv_at hl 0 rfl) ?_
                    refine lv_iload_n hx hb dX7_mean_96 rfl (lv_at hl 4 rfl) ?_
                    refine zr_ge k_8 many.toNatClampNeg (by omega) (by omega) (tgt := 161) hx hb dX7_mean_97 (by decide) (fun c_8 => ?_) (fun c_8 => ?_)
                    · have ek_8 : k_8 = many.toNatClampNeg := Nat.le_antisymm hk_8 c_8
                      have hs_8 : mf_mean_L94 Wd R nr nc nn seed many (0, m_drawn, m_ranSteps, s_7, m_beside, m_loops, m_ran) = s_8 := by rw [ek_8] at hst_8; exact hst_8
                      have hl := lv_sub hl (l' := _) [1, 2, 3, 4] rfl
                      refine lv_aload_n hx hb dX7_mean_161 rfl (lv_at hl 1 rfl) ?_
                      refine lv_lload_n hx hb dX7_mean_162 rfl (lv_at hl 0 rfl) ?_
                      refine lv_iload_n hx hb dX7_mean_163 rfl (lv_at hl 3 rfl) ?_
                      refine lv_i2l (v := lN many.toNatClampNeg) hx hb dX7_mean_164 (nI_l (by omega)) ?_
                      refine zr_muV (F := mf_tellsBy s_8.1 many.toNatClampNeg) (ff := fun t_11 => True) (rr := fun t_11 => some (.int (zb t_11.1))) (w1 := fun t_11 => (mW G ad t_11.2.1 t_11.2.2.1 t_11.2.2.2 m_taped m_size m_token m_from m_end m_value m_faultKind m_faultPlace m_faults m_seen m_depth m_counted m_lead m_round m_tried m_triedMany s_8.2.1 s_8.2.2.1 m_isTold m_marks s_8.2.2.2.1 m_names m_sort m_trayMany m_trays m_tape m_text m_opened s_8.2.2.2.2.1 m_then m_ways m_further m_canBe s_8.2.2.2.2.2.1 s_8.2.2.2.2.2.2 m_told0)) ⟨hx, hb, hml, hown, hts⟩ (mt_mf_tellsBy l G ad m_status m_top m_bottom m_taped m_size m_token m_from m_end m_value m_faultKind m_faultPlace m_faults m_seen m_depth m_counted m_lead m_round m_tried m_triedMany s_8.2.1 s_8.2.2.1 m_isTold m_marks s_8.2.2.2.1 m_names m_sort m_trayMany m_trays m_tape m_text m_opened s_8.2.2.2.2.1 m_then m_ways m_further m_canBe s_8.2.2.2.2.2.1 s_8.2.2.2.2.2.2 m_told0 s_8.1 many.toNatClampNeg (by omega) (by omega) (by omega) H.size) (cwV 2 hts (lw_V q2098 q2100 qs125 q144 q2101) rfl rfl rfl hd_X7_tellsBy ⟨(Nat.le_of_ble_eq_true rfl), (Nat.le_of_ble_eq_true rfl)⟩) hP hD hS hA hK hE 0 7 rfl rfl rfl hl.1 rfl (Nat.le_of_ble_eq_true rfl) dX7_mean_165 ⟨Nat.le_refl _, Nat.le_refl _⟩ (fun t_11 ht_11 hft_11 H locs hP hD hS _ => ?_)
                      refine W.eq (g2 := F0 m 168 ls [.int (zb t_11.1)]) rfl ?_
                      have e_ : mf_mean m_top m_bottom m_drawn m_ranSteps m_at m_beside m_loops m_ran Wd R nr nc nn seed many = (t_11.1, t_11.2.1, t_11.2.2.1, t_11.2.2.2, s_8.2.1, s_8.2.2.1, s_8.2.2.2.1, s_8.2.2.2.2.1, s_8.2.2.2.2.2.1, s_8.2.2.2.2.2.2) := by rw [mf_mean, if_pos c_1, if_pos c_3, if_pos c_5, if_neg c_6, zlet_eq hs_7, zlet_eq hs_8, zlet_eq ht_11]
                      exact zr_mz hx hb hr hlocks hP hD hS dX7_mean_168 zb_nar (by rw [e_]) (by rw [e_]) (by rw [e_]; exact ok_8_m_loops)
                    · have hlt_8 : k_8 < many.toNatClampNeg := Nat.lt_of_not_le c_8
                      refine lv_aload_n hx hb dX7_mean_100 rfl (lv_at hl 2 rfl) ?_
                      refine lv_iload_n hx hb dX7_mean_101 rfl (lv_at hl 3 rfl) ?_
                      refine lv_iload hx hb dX7_mean_102 (lv_at hl 0 rfl) ?_
                      refine lv_iadd hx hb dX7_mean_104 ?_
                      refine zr_muV (F := mf_lives s_8.2.2.2.1 s_8.2.2.2.2.1 s_8.2.2.2.2.2.1 s_8.2.2.2.2.2.2 Wd R nr nc nn (seed + (nI k_8))) (ff := fun t_9 => mYR t_9.2.2.1 Wd R nr nc nn ∧ mLP t_9.2.2.2.2.1 ) (rr := fun t_9 => none) (w1 := fun t_9 => (mW G ad m_status m_top m_bottom m_taped m_size m_token m_from m_end m_value m_faultKind m_faultPlace m_faults m_seen m_depth m_counted m_lead m_round m_tried m_triedMany t_9.1 t_9.2.1 m_isTold m_marks t_9.2.2.1 m_names m_sort m_trayMany m_trays m_tape m_text m_opened t_9.2.2.2.1 m_then m_ways m_further m_canBe t_9.2.2.2.2.1 t_9.2.2.2.2.2 m_told0)) ⟨hx, hb, hml, hown, hts⟩ (mt_mf_lives l G ad m_status m_top m_bottom m_taped m_size m_token m_from m_end m_value m_faultKind m_faultPlace m_faults m_seen m_depth m_counted m_lead m_round m_tried m_triedMany s_8.2.1 s_8.2.2.1 m_isTold m_marks s_8.2.2.2.1 m_names m_sort m_trayMany m_trays m_tape m_text m_opened s_8.2.2.2.2.1 m_then m_ways m_further m_canBe s_8.2.2.2.2.2.1 s_8.2.2.2.2.2.2 m_told0 Wd R nr nc nn (seed + (nI k_8)) (mYR_eq hYr hmv.1) ok_8_m_loops H.size) (cwV 1 hts (lw_V q2106 q2108 qs126 q144 q2109) rfl rfl rfl hd_X7_lives ⟨(Nat.le_of_ble_eq_true rfl), (Nat.le_of_ble_eq_true rfl)⟩) hP hD hS hA hK hE 0 7 rfl rfl rfl hl.1 rfl (Nat.le_of_ble_eq_true rfl) dX7_mean_105 ⟨Nat.le_refl _, Nat.le_refl _⟩ (fun t_9 ht_9 hft_9 H locs hP hD hS _ => ?_)
                      refine W.eq (g2 := F0 m 108 ls []) rfl ?_
                      obtain ⟨ok_m_at_t_9, ok_m_loops_t_9⟩ := hft_9
                      have hlk : ∀ j, 44 ≤ j → t_9.2.2.1 j = _ := fun j hj => (congrArg (fun z => z.2.2.1 j) ht_9).symm.trans (lives_keep (by omega) (by omega) hWR j hj)
                      refine lv_lload_n hx hb dX7_mean_108 rfl (lv_at hl 1 rfl) ?_
                      refine lv_aload_n hx hb dX7_mean_109 rfl (lv_at hl 2 rfl) ?_
                      refine va_get (D := G.1) (ci := 7) (v := .ref (ad 1)) (C := RX7) (T := TX7) (N := 39) hx hb hts in_X7 hown hK.1 hP 0 rfl rfl 0 (Nat.le_of_ble_eq_true rfl) (hts _ q1467) (fun _ h => h) rfl dX7_mean_110 ?_
                      refine lv_iconst (v := 3) hx hb dX7_mean_113 (by decide) ?_
                      refine zr_iald 3 (v := t_9.2.2.1 3) hx hb hK hP 1 rfl rfl (Nat.le_of_ble_eq_true rfl) rfl (by decide) rfl dX7_mean_114 ?_
                      refine zr_puS ⟨hx, hb, hml, hown, hts⟩ (mt_bitsN l (t_9.2.2.1 3)) (va_cwS 1 hts (lw_S q1744 q1745 q144 q1746) rfl rfl rfl hd_X7_bits.2 ⟨(Nat.le_of_ble_eq_true rfl), (Nat.le_of_ble_eq_true rfl)⟩) rfl hl.1 rfl (Nat.le_of_ble_eq_true rfl) dX7_mean_115 ⟨Nat.le_refl _, Nat.le_refl _⟩ ?_
                      have hz32 : (zpc (t_9.2.2.1 3)) ≤ 32 := zpc_le _
                      refine lv_i2l (v := lN (zpc (t_9.2.2.1 3))) hx hb dX7_mean_118 (nI_l (by omega)) ?_
                      refine zr_laddN s_8.1 (zpc (t_9.2.2.1 3)) hx hb dX7_mean_119 ?_
                      refine lv_lstore_n (lv' := [(3, .long (lN (s_8.1 + (zpc (t_9.2.2.1 3))))), (5, .int (nI k_8)), (0, .ref (ad 0)), (1, .int seed), (2, .int (nI many.toNatClampNeg))]) hx hb dX7_mean_120 rfl hl (by decide) rfl (fun ls hl => ?_)
                      refine lv_iconst (v := 0) hx hb dX7_mean_121 (by decide) ?_
                      refine lv_istore (lv' := [(6, .int 0), (3, .long (lN (s_8.1 + (zpc (t_9.2.2.1 3))))), (5, .int (nI k_8)), (0, .ref (ad 0)), (1, .int seed), (2, .int (nI many.toNatClampNeg))]) hx hb dX7_mean_122 hl (by decide) rfl (fun ls hl => ?_)
                      have hlp_10 : ∀ (n k_10 : Nat) (s_10 : (Nat → Int32)), k_10 ≤ 44 → 44 < k_10 + n → zf (mf_mean_B124 ) t_9.2.2.1 k_10 = s_10 → (∀ j, j < k_10 → s_10 j = m_at j) → ((∀ j, 44 ≤ j → j < 404 → s_10 j = m_at j) ∧ (∀ j, j < 44 → s_10 (2050 + j) = m_at j)) → ∀ (H : Heap) (locs : List Loc), va_P G.1 zcl (mW G ad m_status m_top m_bottom m_taped m_size m_token m_from m_end m_value m_faultKind m_faultPlace m_faults m_seen m_depth m_counted m_lead m_round m_tried m_triedMany t_9.1 t_9.2.1 m_isTold m_marks s_10 m_names m_sort m_trayMany m_trays m_tape m_text m_opened t_9.2.2.2.1 m_then m_ways m_further m_canBe t_9.2.2.2.2.1 t_9.2.2.2.2.2 m_told0) H → va_D A (mW G ad m_status m_top m_bottom m_taped m_size m_token m_from m_end m_value m_faultKind m_faultPlace m_faults m_seen m_depth m_counted m_lead m_round m_tried m_triedMany t_9.1 t_9.2.1 m_isTold m_marks s_10 m_names m_sort m_trayMany m_trays m_tape m_text m_opened t_9.2.2.2.1 m_then m_ways m_further m_canBe t_9.2.2.2.2.1 t_9.2.2.2.2.2 m_told0) → va_S A s.heap H locs → ∀ ls : Array Slot, lv_has ls 7 [(6, .int (nI k_10)), (3, .long (lN (s_8.1 + (zpc (t_9.2.2.1 3))))), (5, .int (nI k_8)), (0, .ref (ad 0)), (1, .int seed), (2, .int (nI many.toNatClampNeg))] → W p l e (zR 9 0 0) s m ([.ref (ad 0), .int seed, .int many] : List Value).toArray below meth c H locs 0 0 (MQ below (zQm G (mLP ((mf_mean m_top m_bottom m_drawn m_ranSteps m_at m_beside m_loops m_ran Wd R nr nc nn seed many).2.2.2.2.2.2.2.2.1) ) (some (.int (zb ((mf_mean m_top m_bottom m_drawn m_ranSteps m_at m_beside m_loops m_ran Wd R nr nc nn seed many).1)))) (mW G ad ((mf_mean m_top m_bottom m_drawn m_ranSteps m_at m_beside m_loops m_ran Wd R nr nc nn seed many).2.1) ((mf_mean m_top m_bottom m_drawn m_ranSteps m_at m_beside m_loops m_ran Wd R nr nc nn seed many).2.2.1) ((mf_mean m_top m_bottom m_drawn m_ranSteps m_at m_beside m_loops m_ran Wd R nr nc nn seed many).2.2.2.1) m_taped m_size m_token m_from m_end m_value m_faultKind m_faultPlace m_faults m_seen m_depth m_counted m_lead m_round m_tried m_triedMany ((mf_mean m_top m_bottom m_drawn m_ranSteps m_at m_beside m_loops m_ran Wd R nr nc nn seed many).2.2.2.2.1) ((mf_mean m_top m_bottom m_drawn m_ranSteps m_at m_beside m_loops m_ran Wd R nr nc nn seed many).2.2.2.2.2.1) m_isTold m_marks ((mf_mean m_top m_bottom m_drawn m_ranSteps m_at m_beside m_loops m_ran Wd R nr nc nn seed many).2.2.2.2.2.2.1) m_names m_sort m_trayMany m_trays m_tape m_text m_opened ((mf_mean m_top m_bottom m_drawn m_ranSteps m_at m_beside m_loops m_ran Wd R nr nc nn seed many).2.2.2.2.2.2.2.1) m_then m_ways m_further m_canBe ((mf_mean m_top m_bottom m_drawn m_ranSteps m_at m_beside m_loops m_ran Wd R nr nc nn seed many).2.2.2.2.2.2.2.2.1) ((mf_mean m_top m_bottom m_drawn m_ranSteps m_at m_beside m_loops m_ran Wd R nr nc nn seed many).2.2.2.2.2.2.2.2.2) m_told0) A) ([.ref (ad 0), .int seed, .int many] : List Value).toArray s 0 0 A) (F0 m 124 ls []) := by
                        intro n
                        induction n with
                        | zero => intro k_10 s_10 h1 h2; exact absurd h2 (by omega)
                        | succ n ih_10 =>
                          intro k_10 s_10 hk_10 hn_10 hst_10 hd1 hd2 H locs hP hD hS ls hl
                          refine lv_iload hx hb dX7_mean_124 (lv_at hl 0 rfl) ?_
                          refine lv_bipush (v := 44) hx hb dX7_mean_126 (by decide) ?_
                          refine zr_ge k_10 44 (by omega) (by decide) (tgt := 155) hx hb dX7_mean_128 (by decide) (fun c_10 => ?_) (fun c_10 => ?_)
                          · have ek_10 : k_10 = 44 := Nat.le_antisymm hk_10 c_10
                            have hs_10 : mf_mean_L124  t_9.2.2.1 = s_10 := by rw [ek_10] at hst_10; exact hst_10
                            have hl := lv_sub hl (l' := _) [1, 2, 3, 4, 5] rfl
                            have hmn : (∀ j, j < 404 → s_10 j = m_at j) ∧ (∀ j, j < 44 → s_10 (2050 + j) = m_at j) := ⟨fun j hj => (Nat.lt_or_ge j 44).elim (fun q => hd1 j (by omega)) (fun q => hd2.1 j q hj), hd2.2⟩
                            refine lv_iinc (v := nI (k_8 + 1)) (lv' := [(5, .int (nI (k_8 + 1))), (3, .long (lN (s_8.1 + (zpc (t_9.2.2.1 3))))), (0, .ref (ad 0)), (1, .int seed), (2, .int (nI many.toNatClampNeg))]) hx hb dX7_mean_155 hl (k := 1) rfl (nI_add k_8 1) (by decide) rfl (fun ls hl => ?_)
                            refine lv_goto (tgt := 94) hx hb dX7_mean_158 (by decide) ?_
                            exact ih_8 (k_8 + 1) (s_8.1 + (zpc (t_9.2.2.1 3)), t_9.1, t_9.2.1, s_10, t_9.2.2.2.1, t_9.2.2.2.2.1, t_9.2.2.2.2.2) hlt_8 (by omega) (zf_s hst_8 (by rw [mf_mean_B94, zlet_eq ht_9, zlet_eq hs_10])) (by omega) hmn ok_m_loops_t_9 H locs hP hD hS ls (lv_sub hl [0, 1, 2, 3, 4] rfl)
                          · have hlt_10 : k_10 < 44 := Nat.lt_of_not_le c_10
                            refine lv_aload_n hx hb dX7_mean_131 rfl (lv_at hl 3 rfl) ?_
                            refine va_get (D := G.1) (ci := 7) (v := .ref (ad 1)) (C := RX7) (T := TX7) (N := 39) hx hb hts in_X7 hown hK.1 hP 0 rfl rfl 0 (Nat.le_of_ble_eq_true rfl) (hts _ q1467) (fun _ h => h) rfl dX7_mean_132 ?_
                            refine lv_iload hx hb dX7_mean_135 (lv_at hl 0 rfl) ?_
                            refine lv_aload_n hx hb dX7_mean_137 rfl (lv_at hl 3 rfl) ?_
                            refine va_get (D := G.1) (ci := 7) (v := .ref (ad 1)) (C := RX7) (T := TX7) (N := 39) hx hb hts in_X7 hown hK.1 hP 0 rfl rfl 0 (Nat.le_of_ble_eq_true rfl) (hts _ q1467) (fun _ h => h) rfl dX7_mean_138 ?_
                            refine lv_sipush (v := 2050) hx hb dX7_mean_141 (by decide) ?_
                            refine lv_iload hx hb dX7_mean_144 (lv_at hl 0 rfl) ?_
                            refine zr_iaddN 2050 k_10 hx hb dX7_mean_146 ?_
                            refine zr_iald (2050 + k_10) (v := s_10 (2050 + k_10)) hx hb hK hP 1 rfl rfl (Nat.le_of_ble_eq_true rfl) rfl (by omega) rfl dX7_mean_147 ?_
                            refine zr_iast k_10 (ws' := (mW G ad m_status m_top m_bottom m_taped m_size m_token m_from m_end m_value m_faultKind m_faultPlace m_faults m_seen m_depth m_counted m_lead m_round m_tried m_triedMany t_9.1 t_9.2.1 m_isTold m_marks (upd s_10 k_10 (s_10 (2050 + k_10))) m_names m_sort m_trayMany m_trays m_tape m_text m_opened t_9.2.2.2.1 m_then m_ways m_further m_canBe t_9.2.2.2.2.1 t_9.2.2.2.2.2 m_told0)) hx hb hK hP hD hS 1 rfl rfl (Nat.le_of_ble_eq_true rfl) rfl (by omega) rfl dX7_mean_148 (fun H locs hP hD hS => ?_)
                            refine lv_iinc (v := nI (k_10 + 1)) (lv' := [(6, .int (nI (k_10 + 1))), (3, .long (lN (s_8.1 + (zpc (t_9.2.2.1 3))))), (5, .int (nI k_8)), (0, .ref (ad 0)), (1, .int seed), (2, .int (nI many.toNatClampNeg))]) hx hb dX7_mean_149 hl (k := 0) rfl (nI_add k_10 1) (by decide) rfl (fun ls hl => ?_)
                            refine lv_goto (tgt := 124) hx hb dX7_mean_152 (by decide) ?_
                            exact ih_10 (k_10 + 1) (upd s_10 k_10 (s_10 (2050 + k_10))) hlt_10 (by omega) (zf_s hst_10 (by rw [mf_mean_B124])) (fun j hj => (Nat.lt_or_eq_of_le (Nat.le_of_lt_succ hj)).elim (fun q => (pk_un (by omega)).trans (hd1 j q)) (fun q => by rw [q]; exact pk_us.trans (hd2.2 _ (by omega)))) (⟨fun j h1 h2 => (pk_un (by omega)).trans (hd2.1 j h1 h2), fun j hj => (pk_un (by omega)).trans (hd2.2 j hj)⟩) H locs hP hD hS ls (lv_sub hl [0, 1, 2, 3, 4, 5] rfl)
                      exact hlp_10 (44 + 1) 0 t_9.2.2.1 (Nat.zero_le _) (by omega) rfl (fun j hj => absurd hj (Nat.not_lt_zero _)) (⟨fun j h1 h2 => (hlk j h1).trans (hmv.1 j h2), fun j hj => (hlk _ (by omega)).trans (hmv.2 j hj)⟩) H locs hP hD hS ls (lv_sub hl [0, 1, 2, 3, 4, 5] rfl)
                exact hlp_8 (many.toNatClampNeg + 1) 0 (0, m_drawn, m_ranSteps, s_7, m_beside, m_loops, m_ran) (Nat.zero_le _) (by omega) rfl (by omega) (⟨fun j hj => hc1 j (by omega), hc3⟩) hL H locs hP hD hS ls (lv_sub hl [0, 1, 2, 3, 4] rfl)
              · have hlt_7 : k_7 < 44 := Nat.lt_of_not_le c_7
                refine lv_aload_n hx hb dX7_mean_67 rfl (lv_at hl 1 rfl) ?_
                refine va_get (D := G.1) (ci := 7) (v := .ref (ad 1)) (C := RX7) (T := TX7) (N := 39) hx hb hts in_X7 hown hK.1 hP 0 rfl rfl 0 (Nat.le_of_ble_eq_true rfl) (hts _ q1467) (fun _ h => h) rfl dX7_mean_68 ?_
                refine lv_sipush (v := 2050) hx hb dX7_mean_71 (by decide) ?_
                refine lv_iload_n hx hb dX7_mean_74 rfl (lv_at hl 0 rfl) ?_
                refine zr_iaddN 2050 k_7 hx hb dX7_mean_75 ?_
                refine lv_aload_n hx hb dX7_mean_76 rfl (lv_at hl 1 rfl) ?_
                refine va_get (D := G.1) (ci := 7) (v := .ref (ad 1)) (C := RX7) (T := TX7) (N := 39) hx hb hts in_X7 hown hK.1 hP 0 rfl rfl 0 (Nat.le_of_ble_eq_true rfl) (hts _ q1467) (fun _ h => h) rfl dX7_mean_77 ?_
                refine lv_iload_n hx hb dX7_mean_80 rfl (lv_at hl 0 rfl) ?_
                refine zr_iald k_7 (v := s_7 k_7) hx hb hK hP 1 rfl rfl (Nat.le_of_ble_eq_true rfl) rfl (by omega) rfl dX7_mean_81 ?_
                refine zr_iast (2050 + k_7) (ws' := (mW G ad m_status m_top m_bottom m_taped m_size m_token m_from m_end m_value m_faultKind m_faultPlace m_faults m_seen m_depth m_counted m_lead m_round m_tried m_triedMany m_drawn m_ranSteps m_isTold m_marks (upd s_7 (2050 + k_7) (s_7 k_7)) m_names m_sort m_trayMany m_trays m_tape m_text m_opened m_beside m_then m_ways m_further m_canBe m_loops m_ran m_told0)) hx hb hK hP hD hS 1 rfl rfl (Nat.le_of_ble_eq_true rfl) rfl (by omega) rfl dX7_mean_82 (fun H locs hP hD hS => ?_)
                refine lv_iinc (v := nI (k_7 + 1)) (lv' := [(3, .int (nI (k_7 + 1))), (0, .ref (ad 0)), (1, .int seed), (2, .int (nI many.toNatClampNeg))]) hx hb dX7_mean_83 hl (k := 0) rfl (nI_add k_7 1) (by decide) rfl (fun ls hl => ?_)
                refine lv_goto (tgt := 61) hx hb dX7_mean_86 (by decide) ?_
                exact ih_7 (k_7 + 1) (upd s_7 (2050 + k_7) (s_7 k_7)) hlt_7 (by omega) (zf_s hst_7 (by rw [mf_mean_B61])) (fun j hj => (pk_un (by omega)).trans (hc1 j hj)) (fun j hj => (Nat.lt_or_eq_of_le (Nat.le_of_lt_succ hj)).elim (fun q => (pk_un (by omega)).trans (hc2 j q)) (fun q => by rw [q]; exact pk_us.trans (hc1 _ (by omega)))) H locs hP hD hS ls (lv_sub hl [0, 1, 2, 3] rfl)
          exact hlp_7 (44 + 1) 0 m_at (Nat.zero_le _) (by omega) rfl (fun _ _ => rfl) (fun j hj => absurd hj (Nat.not_lt_zero _)) H locs hP hD hS ls (lv_sub hl [0, 1, 2, 3] rfl)
        · refine lv_aload_n hx hb dX7_mean_52 rfl (lv_at hl 0 rfl) ?_
          refine lv_bipush (v := 6) hx hb dX7_mean_53 (by decide) ?_
          refine zr_muV (F := ()) (ff := fun _ => True) (rr := fun _ => some (.int (zb (decide ((6 : Int32) = 0))))) (w1 := fun _ => (mW G ad 6 m_top m_bottom m_taped m_size m_token m_from m_end m_value m_faultKind m_faultPlace m_faults m_seen m_depth m_counted m_lead m_round m_tried m_triedMany m_drawn m_ranSteps m_isTold m_marks m_at m_names m_sort m_trayMany m_trays m_tape m_text m_opened m_beside m_then m_ways m_further m_canBe m_loops m_ran m_told0)) ⟨hx, hb, hml, hown, hts⟩ (mt_mf_is l G ad m_status m_top m_bottom m_taped m_size m_token m_from m_end m_value m_faultKind m_faultPlace m_faults m_seen m_depth m_counted m_lead m_round m_tried m_triedMany m_drawn m_ranSteps m_isTold m_marks m_at m_names m_sort m_trayMany m_trays m_tape m_text m_opened m_beside m_then m_ways m_further m_canBe m_loops m_ran m_told0 6 H.size) (cwV 1 hts (lw_V q1604 q1606 qs60 q144 q1607) rfl rfl rfl hd_X7_is ⟨(Nat.le_of_ble_eq_true rfl), (Nat.le_of_ble_eq_true rfl)⟩) hP hD hS hA hK hE 0 7 rfl rfl rfl hl.1 rfl (Nat.le_of_ble_eq_true rfl) dX7_mean_55 ⟨Nat.le_refl _, Nat.le_refl _⟩ (fun _ _ _ H locs hP hD hS _ => ?_)
          refine W.eq (g2 := F0 m 58 ls [.int (zb (decide ((6 : Int32) = 0)))]) rfl ?_
          refine zr_val (v' := .int 0) (congrArg Value.int (by decide)) ?_
          have e_ : mf_mean m_top m_bottom m_drawn m_ranSteps m_at m_beside m_loops m_ran Wd R nr nc nn seed many = (false, 6, m_top, m_bottom, m_drawn, m_ranSteps, m_at, m_beside, m_loops, m_ran) := by rw [mf_mean, if_pos c_1, if_pos c_3, if_pos c_5, if_pos c_6]
          exact zr_mz hx hb hr hlocks hP hD hS dX7_mean_58 rfl (by rw [e_]; rfl) (by rw [e_]) (by rw [e_]; exact hL)
      · refine lv_aload_n hx hb dX7_mean_35 rfl (lv_at hl 0 rfl) ?_
        refine lv_iconst (v := 1) hx hb dX7_mean_36 (by decide) ?_
        refine zr_muV (F := ()) (ff := fun _ => True) (rr := fun _ => some (.int (zb (decide ((1 : Int32) = 0))))) (w1 := fun _ => (mW G ad 1 m_top m_bottom m_taped m_size m_token m_from m_end m_value m_faultKind m_faultPlace m_faults m_seen m_depth m_counted m_lead m_round m_tried m_triedMany m_drawn m_ranSteps m_isTold m_marks m_at m_names m_sort m_trayMany m_trays m_tape m_text m_opened m_beside m_then m_ways m_further m_canBe m_loops m_ran m_told0)) ⟨hx, hb, hml, hown, hts⟩ (mt_mf_is l G ad m_status m_top m_bottom m_taped m_size m_token m_from m_end m_value m_faultKind m_faultPlace m_faults m_seen m_depth m_counted m_lead m_round m_tried m_triedMany m_drawn m_ranSteps m_isTold m_marks m_at m_names m_sort m_trayMany m_trays m_tape m_text m_opened m_beside m_then m_ways m_further m_canBe m_loops m_ran m_told0 1 H.size) (cwV 1 hts (lw_V q1604 q1606 qs60 q144 q1607) rfl rfl rfl hd_X7_is ⟨(Nat.le_of_ble_eq_true rfl), (Nat.le_of_ble_eq_true rfl)⟩) hP hD hS hA hK hE 0 7 rfl rfl rfl hl.1 rfl (Nat.le_of_ble_eq_true rfl) dX7_mean_37 ⟨Nat.le_refl _, Nat.le_refl _⟩ (fun _ _ _ H locs hP hD hS _ => ?_)
        refine W.eq (g2 := F0 m 40 ls [.int (zb (decide ((1 : Int32) = 0)))]) rfl ?_
        refine zr_val (v' := .int 0) (congrArg Value.int (by decide)) ?_
        have e_ : mf_mean m_top m_bottom m_drawn m_ranSteps m_at m_beside m_loops m_ran Wd R nr nc nn seed many = (false, 1, m_top, m_bottom, m_drawn, m_ranSteps, m_at, m_beside, m_loops, m_ran) := by rw [mf_mean, if_pos c_1, if_pos c_3, if_neg c_5]
        exact zr_mz hx hb hr hlocks hP hD hS dX7_mean_40 rfl (by rw [e_]; rfl) (by rw [e_]) (by rw [e_]; exact hL)
