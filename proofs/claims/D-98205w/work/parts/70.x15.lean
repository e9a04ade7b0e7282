/-! ntz: the lowest bit; a heap holds its lamp; heaps' measure -/
theorem nx_and (a b : Nat) : nI a &&& nI b = nI (a &&& b) := Int32.toBitVec_inj.mp (show BitVec.ofNat 32 a &&& BitVec.ofNat 32 b = BitVec.ofNat 32 (a &&& b) by
  apply BitVec.eq_of_toNat_eq
  rw [BitVec.toNat_and, BitVec.toNat_ofNat, BitVec.toNat_ofNat, BitVec.toNat_ofNat, Nat.and_mod_two_pow])
theorem nx_xor (a b : Nat) : nI a ^^^ nI b = nI (a ^^^ b) := Int32.toBitVec_inj.mp (show BitVec.ofNat 32 a ^^^ BitVec.ofNat 32 b = BitVec.ofNat 32 (a ^^^ b) by
  apply BitVec.eq_of_toNat_eq
  rw [BitVec.toNat_xor, BitVec.toNat_ofNat, BitVec.toNat_ofNat, BitVec.toNat_ofNat, Nat.xor_mod_two_pow])
theorem ntz_dec : ∀ j, j < 32 → jf_ntz (nI (2 ^ j)) = nI j := by decide +kernel
theorem ntz_odd (n : Nat) (h : 0 < n) : ∃ j q, n = 2 ^ j * (2 * q + 1) := by
  induction n using Nat.strongRecOn with
  | ind n ih =>
    rcases Nat.mod_two_eq_zero_or_one n with e | e
    · obtain ⟨j, q, hq⟩ := ih (n / 2) (by omega) (by omega)
      refine ⟨j + 1, q, ?_⟩
      rw [Nat.pow_succ, Nat.mul_assoc, Nat.mul_comm 2, ← Nat.mul_assoc, ← hq]
      omega
    · exact ⟨0, n / 2, by omega⟩
theorem ntz_mask {n j q : Nat} (e : n = 2 ^ j * (2 * q + 1)) (hn : n < 2 ^ 32) : (nI n ^^^ (-1)) &&& (nI n - 1) = nI (2 ^ j - 1) := by
  have hp : 0 < 2 ^ j := Nat.two_pow_pos j
  have h1 : 1 ≤ n := by
    rw [e]
    exact Nat.mul_pos hp (by omega)
  have e1 : n = 2 ^ j * (2 * q + 1) + 0 := e
  have e2 : n - 1 = 2 ^ j * (2 * q) + (2 ^ j - 1) := by
    rw [e, Nat.mul_add, Nat.mul_one]
    omega
  have hm : (-1 : Int32) = nI (2 ^ 32 - 1) := by decide
  have hs : nI n - 1 = nI (n - 1) := pk_sub h1
  rw [hm, hs, nx_xor, nx_and]
  congr 1
  apply Nat.eq_of_testBit_eq
  intro i
  rw [Nat.testBit_and, Nat.testBit_xor, Nat.testBit_two_pow_sub_one, Nat.testBit_two_pow_sub_one, e2, Nat.testBit_two_pow_mul_add _ (show 2 ^ j - 1 < 2 ^ j by omega)]
  have hb : n.testBit i = if i < j then (0 : Nat).testBit i else (2 * q + 1).testBit (i - j) := by
    rw [e1, Nat.testBit_two_pow_mul_add _ hp]
  by_cases c : i < j
  · rw [hb, if_pos c, if_pos c, Nat.zero_testBit, Nat.testBit_two_pow_sub_one]
    have : i < 32 := by
      rcases Nat.lt_or_ge i 32 with h | h
      · exact h
      · have : 2 ^ 32 ≤ 2 ^ j := Nat.pow_le_pow_right (by omega) (by omega)
        have : 2 ^ j ≤ n := by rw [e]; exact Nat.le_mul_of_pos_right _ (by omega)
        omega
    simp [c, this]
  · rw [if_neg c]
    by_cases c2 : i < 32
    · have hd : decide (i < 32) = true := decide_eq_true c2
      have hd2 : decide (i < j) = false := decide_eq_false c
      rw [hb, if_neg c, hd, hd2]
      cases hk : i - j with
      | zero => simp [Nat.testBit_zero]
      | succ k =>
        rw [Nat.testBit_succ, Nat.testBit_succ, show (2 * q + 1) / 2 = q by omega, show 2 * q / 2 = q by omega]
        cases q.testBit k <;> rfl
    · have hz : n.testBit i = false := Nat.testBit_lt_two_pow (Nat.lt_of_lt_of_le hn (Nat.pow_le_pow_right (by omega) (by omega)))
      have hz2 : (2 * q).testBit (i - j) = false := by
        rw [hb, if_neg c] at hz
        cases hk : i - j with
        | zero => simp [Nat.testBit_zero]
        | succ k =>
          rw [hk, Nat.testBit_succ, show (2 * q + 1) / 2 = q by omega] at hz
          rw [Nat.testBit_succ, show 2 * q / 2 = q by omega]
          exact hz
      rw [hz2]
      simp [c]
theorem ntz_eq {n j q : Nat} (e : n = 2 ^ j * (2 * q + 1)) (hn : n < 2 ^ 32) (hj : j < 32) : jf_ntz (nI n) = nI j := by
  rw [← ntz_dec j hj]
  unfold jf_ntz
  rw [ntz_mask e hn, ntz_mask (n := 2 ^ j) (j := j) (q := 0) (by rw [Nat.mul_zero, Nat.zero_add, Nat.mul_one]) (Nat.pow_lt_pow_right (by omega) hj)]
theorem zw_inv_mu {σ ρ : Type} {f : σ → σ ⊕ ρ} {d : ρ} (P : σ → Prop) (Q : ρ → Prop) (mu : σ → Nat) (hl : ∀ s s', P s → f s = .inl s' → P s' ∧ mu s' < mu s) (hr : ∀ s r, P s → f s = .inr r → Q r) : ∀ n s, mu s < n → P s → Q (zw f d n s) := by
  intro n
  induction n with
  | zero => exact fun s h _ => absurd h (Nat.not_lt_zero _)
  | succ n ih =>
    intro s hm hs
    cases e : f s with
    | inl s' =>
      rw [zw_l e]
      obtain ⟨h1, h2⟩ := hl s s' hs e
      exact ih s' (by omega) h1
    | inr r => rw [zw_r e]; exact hr s r hs e
theorem heapOf_bit (ulit : Int32) (Wd R : Nat) (tbeside : Nat → Int32) (kk : Int32) : xf_heapOf ulit Wd R tbeside kk ||| ((1 : Int32) <<< (kk &&& 31)) = xf_heapOf ulit Wd R tbeside kk := by
  generalize hb : (1 : Int32) <<< (kk &&& 31) = b
  have key : ∀ n s, (32 - zpc s.1 + (if s.1 = s.2 then 0 else 1)) < n → s.1 ||| b = s.1 → (zw (xf_heapOf_B6 ulit Wd R tbeside kk) (b, (0 : Int32)) n s).2 ||| b = (zw (xf_heapOf_B6 ulit Wd R tbeside kk) (b, (0 : Int32)) n s).2 := by
    refine zw_inv_mu (fun s : Int32 × Int32 => s.1 ||| b = s.1) (fun r : Int32 × Int32 => r.2 ||| b = r.2) (fun s => 32 - zpc s.1 + (if s.1 = s.2 then 0 else 1)) ?_ ?_
    · intro s s' hs e
      unfold xf_heapOf_B6 zlet at e
      by_cases c : s.1 = s.2
      · rw [if_pos c] at e; cases e
      · rw [if_neg c] at e
        have hg : s.1 ||| xf_heapOf_L16 ulit Wd R tbeside s s.1 = xf_heapOf_L16 ulit Wd R tbeside s s.1 := by
          refine zf_inv (fun t : Int32 => s.1 ||| t = t) ?_ Int32.or_self (Wd * R)
          intro k t ht
          unfold xf_heapOf_B16
          by_cases c2 : ((s.1 >>> ((nI k) &&& 31)) &&& 1) = 1
          · rw [if_pos c2, ← Int32.or_assoc, ht]
          · rw [if_neg c2]; exact ht
        cases e
        refine ⟨?_, heapOf_mu (Nat.lt_succ_self _) c hg⟩
        show xf_heapOf_L16 ulit Wd R tbeside s s.1 ||| b = xf_heapOf_L16 ulit Wd R tbeside s s.1
        rw [← hg, Int32.or_assoc, Int32.or_comm _ b, ← Int32.or_assoc, hs]
    · intro s r hs e
      unfold xf_heapOf_B6 zlet at e
      by_cases c : s.1 = s.2
      · rw [if_pos c] at e; cases e
        show s.2 ||| b = s.2
        rw [← c]; exact hs
      · rw [if_neg c] at e; cases e
  have e : xf_heapOf ulit Wd R tbeside kk = (zw (xf_heapOf_B6 ulit Wd R tbeside kk) (b, (0 : Int32)) ((32 - zpc b + (if b = 0 then 0 else 1)) + 1) (b, 0)).2 := by
    rw [← hb]; rfl
  rw [e]
  exact key _ (b, 0) (Nat.lt_succ_self _) Int32.or_self
theorem i_bit : ∀ j, j < 32 → (1 : Int32) <<< ((nI j) &&& 31) = nI (2 ^ j) := by decide +kernel
theorem ntz_bit {x : Int32} (h : ¬ x = 0) : x &&& ((1 : Int32) <<< (jf_ntz x &&& 31)) = (1 : Int32) <<< (jf_ntz x &&& 31) ∧ ¬ (1 : Int32) <<< (jf_ntz x &&& 31) = 0 := by
  obtain ⟨n, hn, rfl⟩ : ∃ n, n < 2 ^ 32 ∧ x = nI n := ⟨x.toBitVec.toNat, x.toBitVec.isLt, Int32.toBitVec_inj.mp (show x.toBitVec = BitVec.ofNat 32 x.toBitVec.toNat by rw [BitVec.ofNat_toNat, BitVec.setWidth_eq])⟩
  have hp : 0 < n := by
    rcases Nat.eq_zero_or_pos n with q | q
    · subst q; exact absurd rfl h
    · exact q
  obtain ⟨j, q, e⟩ := ntz_odd n hp
  have hj : j < 32 := by
    rcases Nat.lt_or_ge j 32 with c | c
    · exact c
    · have : 2 ^ 32 ≤ 2 ^ j := Nat.pow_le_pow_right (by omega) c
      have : 2 ^ j ≤ n := by rw [e]; exact Nat.le_mul_of_pos_right _ (by omega)
      omega
  rw [ntz_eq e hn hj, i_bit j hj, nx_and]
  refine ⟨?_, ?_⟩
  · congr 1
    apply Nat.eq_of_testBit_eq
    intro i
    rw [Nat.testBit_and, Nat.testBit_two_pow]
    by_cases c : j = i
    · subst c
      have : n.testBit j = true := by
        rw [e, show 2 ^ j * (2 * q + 1) = 2 ^ j * (2 * q + 1) + 0 from rfl, Nat.testBit_two_pow_mul_add _ (Nat.two_pow_pos j), if_neg (Nat.lt_irrefl _), Nat.sub_self, Nat.testBit_zero]
        simp
      simp [this]
    · simp [c]
  · intro z
    exact absurd z ((show ∀ j, j < 32 → ¬ nI (2 ^ j) = 0 by decide +kernel) j hj)
theorem i_out {x h b : Int32} (h1 : h ||| b = h) (h2 : x &&& b = b) (h3 : ¬ b = 0) : (x &&& (h ^^^ (-1))) ||| x = x ∧ ¬ x &&& (h ^^^ (-1)) = x := by
  have o1 : (x &&& (h ^^^ (-1))) ||| x = x := by
    apply Int32.toBitVec_inj.mp
    apply BitVec.eq_of_getLsbD_eq
    intro i hi
    simp only [Int32.toBitVec_or, Int32.toBitVec_and, BitVec.getLsbD_or, BitVec.getLsbD_and]
    cases x.toBitVec.getLsbD i <;> simp
  refine ⟨o1, fun z => h3 ?_⟩
  have e1 : b = (x &&& (h ^^^ (-1))) &&& b := by rw [z, h2]
  have e2 : (h ^^^ (-1)) &&& b = 0 := by
    apply Int32.toBitVec_inj.mp
    apply BitVec.eq_of_getLsbD_eq
    intro i hi
    have hb := congrArg (fun t : Int32 => t.toBitVec.getLsbD i) h1
    have hm : (-1 : Int32).toBitVec.getLsbD i = true := by
      have : (-1 : Int32).toBitVec = BitVec.allOnes 32 := by decide
      rw [this, BitVec.getLsbD_allOnes]
      exact decide_eq_true hi
    simp only [Int32.toBitVec_or, BitVec.getLsbD_or] at hb
    simp only [Int32.toBitVec_and, Int32.toBitVec_xor, BitVec.getLsbD_and, BitVec.getLsbD_xor, hm]
    have hz : (0 : Int32).toBitVec.getLsbD i = false := BitVec.getLsbD_zero
    rw [hz]
    exact (show ∀ p q : Bool, (p || q) = p → ((p ^^ true) && q) = false by decide) _ _ hb
  rw [e1, Int32.and_assoc, e2]
  exact Int32.and_zero
theorem heaps_mu {ulit : Int32} {Wd R : Nat} {tbeside : Nat → Int32} {x : Int32} {n : Nat} (hm : zpc x < n + 1) (hx : ¬ x = 0) : zpc (x &&& (xf_heapOf ulit Wd R tbeside (jf_ntz x) ^^^ (-1))) < n := by
  obtain ⟨b1, b2⟩ := ntz_bit hx
  obtain ⟨o1, o2⟩ := i_out (heapOf_bit ulit Wd R tbeside (jf_ntz x)) b1 b2
  have := zpc_grow o1 o2
  omega

def xf_heaps_B41 (ulit : Int32) (Wd : Nat) (R : Nat) (tbeside : Nat → Int32) (s_2 : Int32 × Int32 × Int32) : (Int32 × Int32 × Int32) ⊕ (Int32 × Int32 × Int32) :=
  (if s_2.2.2 = 0 then
    .inr (s_2.1, s_2.2.1, s_2.2.2)
  else
    .inl (zmax s_2.1 (nI (zpc (xf_heapOf ulit Wd R tbeside (jf_ntz s_2.2.2)))), s_2.2.1 + 1, s_2.2.2 &&& ((xf_heapOf ulit Wd R tbeside (jf_ntz s_2.2.2)) ^^^ (-1))))
def xf_heaps_L41 (ulit : Int32) (Wd : Nat) (R : Nat) (tbeside : Nat → Int32) (s_2 : Int32 × Int32 × Int32) : Int32 × Int32 × Int32 := zw (xf_heaps_B41 ulit Wd R tbeside) (s_2) ((zpc s_2.2.2) + 1) s_2
def xf_heaps (ulit : Int32) (Wd : Nat) (R : Nat) (tbeside : Nat → Int32) (what : Int32) : Int32 × Int32 :=
  (if (xf_isIn what.toInt64 0 1) = true then
    zlet (xf_heaps_L41 ulit Wd R tbeside (0, 0, ulit)) (fun t_2 =>
    (if what = 0 then
      (t_2.2.1, 0)
    else
      (t_2.1, 0)))
  else
    ((-1), 1))
theorem hd_X0_heaps : yX0_heaps.cls = RX0 ∧ yX0_heaps.cls ≠ "java/lang/invoke/MethodHandle" ∧ yX0_heaps.cls ≠ "java/lang/invoke/VarHandle" ∧ (parseMethodDescriptor yX0_heaps.desc).map (fun d => d.parameters.length) = some 1 := by decide +kernel
set_option maxHeartbeats 4000000 in
set_option maxRecDepth 100000 in
theorem mt_xf_heaps (l : Launch) (G : zG) (xA : Nat) (xa_trays : Nat) (xa_tape : Nat) (x_taped : Int32) (x_faultKind : Int32) (x_faultAt : Int32) (xa_bad : Nat) (xa_refused : Nat) (x_status : Int32) (x_above : Int64) (x_under : Int64) (nA : Nat) (xa_marks : Nat) (x_markMany : Int32) (xa_pictures : Nat) (x_lead : Int32) (x_round : Int32) (xa_ways : Nat) (x_bestSet : Int32) (x_bestMany : Int32) (x_left : Int32) (xa_aside : Nat) (xa_last : Nat) (x_hasLived : Bool) (uA : Nat) (n_year : Option Nat) (tA : Nat) (uA_bo : Nat) (uA_st : Nat) (uA_se : Nat) (ulit : Int32) (umayor : Int32) (unight : Int32) (uoil : Int32) (uborn : Nat → Int32) (ustays : Nat → Int32) (useen : Nat → Int32) (tA_be : Nat) (tA_le : Nat) (tA_mo : Nat) (tA_rn : Nat) (tA_cn : Nat) (tA_bo : Nat) (tA_st : Nat) (Wd : Nat) (R : Nat) (thouses : Int32) (talways : Int32) (tnever : Int32) (nr : Nat) (nc : Nat) (tring : Bool) (tbeside : Nat → Int32) (tleast : Nat → Int32) (tmost : Nat → Int32) (trnames : Nat → Int64) (what : Int32) (hT : tOK Wd R nr nc) (sz : Nat) : Met l yX0_heaps (ws_ yX0_heaps cX0_heaps 6 (some .int)) (zR 3 0 0) (zPm G sz [.ref xA, .int what] ((xA_ G xA xa_trays xa_tape x_taped x_faultKind x_faultAt xa_bad xa_refused x_status x_above x_under nA xa_marks x_markMany xa_pictures x_lead x_round xa_ways x_bestSet x_bestMany x_left xa_aside xa_last x_hasLived uA n_year) ++ (hW G uA tA uA_bo uA_st uA_se ulit umayor unight uoil uborn ustays useen) ++ (tW G tA tA_be tA_le tA_mo tA_rn tA_cn tA_bo tA_st (nI Wd) (nI R) thouses talways tnever (nI nr) (nI nc) tring tbeside tleast tmost trnames))) (zQm G (True) (some (.int ((xf_heaps ulit Wd R tbeside what).1))) ((xA_ G xA xa_trays xa_tape x_taped x_faultKind x_faultAt xa_bad xa_refused ((xf_heaps ulit Wd R tbeside what).2) x_above x_under nA xa_marks x_markMany xa_pictures x_lead x_round xa_ways x_bestSet x_bestMany x_left xa_aside xa_last x_hasLived uA n_year) ++ (hW G uA tA uA_bo uA_st uA_se ulit umayor unight uoil uborn ustays useen) ++ (tW G tA tA_be tA_le tA_mo tA_rn tA_cn tA_bo tA_st (nI Wd) (nI R) thouses talways tnever (nI nr) (nI nc) tring tbeside tleast tmost trnames)) (va_A ((xA_ G xA xa_trays xa_tape x_taped x_faultKind x_faultAt xa_bad xa_refused x_status x_above x_under nA xa_marks x_markMany xa_pictures x_lead x_round xa_ways x_bestSet x_bestMany x_left xa_aside xa_last x_hasLived uA n_year) ++ (hW G uA tA uA_bo uA_st uA_se ulit umayor unight uoil uborn ustays useen) ++ (tW G tA tA_be tA_le tA_mo tA_rn tA_cn tA_bo tA_st (nI Wd) (nI R) thouses talways tnever (nI nr) (nI nc) tring tbeside tleast tmost trnames)) sz)) 0 0 (va_A ((xA_ G xA xa_trays xa_tape x_taped x_faultKind x_faultAt xa_bad xa_refused x_status x_above x_under nA xa_marks x_markMany xa_pictures x_lead x_round xa_ways x_bestSet x_bestMany x_left xa_aside xa_last x_hasLived uA n_year) ++ (hW G uA tA uA_bo uA_st uA_se ulit umayor unight uoil uborn ustays useen) ++ (tW G tA tA_be tA_le tA_mo tA_rn tA_cn tA_bo tA_st (nI Wd) (nI R) thouses talways tnever (nI nr) (nI nc) tring tbeside tleast tmost trnames)) sz) := by
  refine zr_entM (by decide) (Nat.le_of_ble_eq_true rfl) ?_
  intro p e s m below meth c ⟨hx, hb, hr, hml, hown, hts, hlocks, hnm⟩ ls hl hP hK A hE hA hD hS
  have hown : s.vm.findClass RX0 = some m.cls := hown
  have hl : lv_has ls 6 [(0, .ref xA), (1, .int what)] := hl
  obtain ⟨H, hH⟩ : ∃ H, H = s.heap := ⟨_, rfl⟩
  obtain ⟨locs, hlo⟩ : ∃ L : List Loc, L = [] := ⟨_, rfl⟩
  rw [← hH] at hP
  have hS : va_S A s.heap H locs := by rw [hH, hlo]; exact va_S.rf
  have hgo : W p l e (zR 3 0 0) s m ([.ref xA, .int what] : List Value).toArray below meth c H locs 0 0 (MQ below (zQm G (True) (some (.int ((xf_heaps ulit Wd R tbeside what).1))) ((xA_ G xA xa_trays xa_tape x_taped x_faultKind x_faultAt xa_bad xa_refused ((xf_heaps ulit Wd R tbeside what).2) x_above x_under nA xa_marks x_markMany xa_pictures x_lead x_round xa_ways x_bestSet x_bestMany x_left xa_aside xa_last x_hasLived uA n_year) ++ (hW G uA tA uA_bo uA_st uA_se ulit umayor unight uoil uborn ustays useen) ++ (tW G tA tA_be tA_le tA_mo tA_rn tA_cn tA_bo tA_st (nI Wd) (nI R) thouses talways tnever (nI nr) (nI nc) tring tbeside tleast tmost trnames)) A) ([.ref xA, .int what] : List Value).toArray s 0 0 A) (F0 m 0 ls []) := ?_
  · rw [hH, hlo] at hgo; exact hgo
  clear hH hlo
  have hTT := hT
  obtain ⟨hW0, hW5, hR0, hR6, hn4, hc6, hWR⟩ := hTT
  refine lv_aload_n hx hb dX0_heaps_0 rfl (lv_at hl 0 rfl) ?_
  refine lv_iload_n hx hb dX0_heaps_1 rfl (lv_at hl 1 rfl) ?_
  refine lv_i2l hx hb dX0_heaps_2 rfl ?_
  refine lv_lconst (v := 0) hx hb dX0_heaps_3 rfl ?_
  refine lv_lconst (v := 1) hx hb dX0_heaps_4 rfl ?_
  refine zr_puS ⟨hx, hb, hml, hown, hts⟩ (mt_xf_isIn l what.toInt64 0 1) (va_cwS 3 hts (lw_S q969 q970 q135 q971) rfl rfl rfl hd_X0_isIn.2 ⟨(Nat.le_of_ble_eq_true rfl), (Nat.le_of_ble_eq_true rfl)⟩) rfl hl.1 rfl (Nat.le_of_ble_eq_true rfl) dX0_heaps_5 ⟨Nat.le_refl _, Nat.le_refl _⟩ ?_
  refine zr_eqB (xf_isIn what.toInt64 0 1) (tgt := 15) hx hb dX0_heaps_8 (by decide) (fun c_1 => ?_) (fun c_1 => ?_)
  · refine lv_iconst (v := 1) hx hb dX0_heaps_15 (by decide) ?_
    refine va_put (D := G.1) (ci := 0) (v := .int 1) (ty := .int) (C := RX0) (T := TX0) (N := 23) hx hb hts in_X0 tyX0 tyX0_ok nmX0 hown hK.1 hP hD hS 0 rfl rfl 7 (Nat.le_of_ble_eq_true rfl) (hts _ q432) (fun _ h => h) rfl (tyX0_ok 7 (Nat.le_of_ble_eq_true rfl)) rfl rfl (Nat.le_of_ble_eq_true rfl) dX0_heaps_16 (fun H locs hP hD hS => ?_)
    have hP : va_P G.1 zcl ((xA_ G xA xa_trays xa_tape x_taped x_faultKind x_faultAt xa_bad xa_refused 1 x_above x_under nA xa_marks x_markMany xa_pictures x_lead x_round xa_ways x_bestSet x_bestMany x_left xa_aside xa_last x_hasLived uA n_year) ++ (hW G uA tA uA_bo uA_st uA_se ulit umayor unight uoil uborn ustays useen) ++ (tW G tA tA_be tA_le tA_mo tA_rn tA_cn tA_bo tA_st (nI Wd) (nI R) thouses talways tnever (nI nr) (nI nc) tring tbeside tleast tmost trnames)) H := hP
    have hD : va_D A ((xA_ G xA xa_trays xa_tape x_taped x_faultKind x_faultAt xa_bad xa_refused 1 x_above x_under nA xa_marks x_markMany xa_pictures x_lead x_round xa_ways x_bestSet x_bestMany x_left xa_aside xa_last x_hasLived uA n_year) ++ (hW G uA tA uA_bo uA_st uA_se ulit umayor unight uoil uborn ustays useen) ++ (tW G tA tA_be tA_le tA_mo tA_rn tA_cn tA_bo tA_st (nI Wd) (nI R) thouses talways tnever (nI nr) (nI nc) tring tbeside tleast tmost trnames)) := hD
    refine lv_aload_n hx hb dX0_heaps_19 rfl (lv_at hl 0 rfl) ?_
    refine va_get (D := G.1) (ci := 0) (v := .int 1) (C := RX0) (T := TX0) (N := 23) hx hb hts in_X0 hown hK.1 hP 0 rfl rfl 7 (Nat.le_of_ble_eq_true rfl) (hts _ q432) (fun _ h => h) rfl dX0_heaps_20 ?_
    refine lv_if_le (tgt := 28) hx hb dX0_heaps_23 (by decide) (fun z => absurd z (by decide)) (fun _ => ?_)
    refine lv_iconst (v := (-1)) hx hb dX0_heaps_26 (by decide) ?_
    have e_ : xf_heaps ulit Wd R tbeside what = ((-1), 1) := by rw [xf_heaps, if_neg c_1]
    exact zr_mi hx hb hr hlocks hP hD hS dX0_heaps_27 (by rw [e_])  (by rw [e_]) trivial
  · refine lv_iconst (v := 0) hx hb dX0_heaps_11 (by decide) ?_
    refine lv_goto (tgt := 16) hx hb dX0_heaps_12 (by decide) ?_
    refine va_put (D := G.1) (ci := 0) (v := .int 0) (ty := .int) (C := RX0) (T := TX0) (N := 23) hx hb hts in_X0 tyX0 tyX0_ok nmX0 hown hK.1 hP hD hS 0 rfl rfl 7 (Nat.le_of_ble_eq_true rfl) (hts _ q432) (fun _ h => h) rfl (tyX0_ok 7 (Nat.le_of_ble_eq_true rfl)) rfl rfl (Nat.le_of_ble_eq_true rfl) dX0_heaps_16 (fun H locs hP hD hS => ?_)
    have hP : va_P G.1 zcl ((xA_ G xA xa_trays xa_tape x_taped x_faultKind x_faultAt xa_bad xa_refused 0 x_above x_under nA xa_marks x_markMany xa_pictures x_lead x_round xa_ways x_bestSet x_bestMany x_left xa_aside xa_last x_hasLived uA n_year) ++ (hW G uA tA uA_bo uA_st uA_se ulit umayor unight uoil uborn ustays useen) ++ (tW G tA tA_be tA_le tA_mo tA_rn tA_cn tA_bo tA_st (nI Wd) (nI R) thouses talways tnever (nI nr) (nI nc) tring tbeside tleast tmost trnames)) H := hP
    have hD : va_D A ((xA_ G xA xa_trays xa_tape x_taped x_faultKind x_faultAt xa_bad xa_refused 0 x_above x_under nA xa_marks x_markMany xa_pictures x_lead x_round xa_ways x_bestSet x_bestMany x_left xa_aside xa_last x_hasLived uA n_year) ++ (hW G uA tA uA_bo uA_st uA_se ulit umayor unight uoil uborn ustays useen) ++ (tW G tA tA_be tA_le tA_mo tA_rn tA_cn tA_bo tA_st (nI Wd) (nI R) thouses talways tnever (nI nr) (nI nc) tring tbeside tleast tmost trnames)) := hD
    refine lv_aload_n hx hb dX0_heaps_19 rfl (lv_at hl 0 rfl) ?_
    refine va_get (D := G.1) (ci := 0) (v := .int 0) (C := RX0) (T := TX0) (N := 23) hx hb hts in_X0 hown hK.1 hP 0 rfl rfl 7 (Nat.le_of_ble_eq_true rfl) (hts _ q432) (fun _ h => h) rfl dX0_heaps_20 ?_
    refine lv_if_le (tgt := 28) hx hb dX0_heaps_23 (by decide) (fun _ => ?_) (fun z => absurd (by decide) z)
    refine lv_aload_n hx hb dX0_heaps_28 rfl (lv_at hl 0 rfl) ?_
    refine zr_obV ⟨hx, hb, hml, hown, hts⟩ (mt_xf_hill l G xA xa_trays xa_tape x_taped x_faultKind x_faultAt xa_bad xa_refused 0 x_above x_under nA xa_marks x_markMany xa_pictures x_lead x_round xa_ways x_bestSet x_bestMany x_left xa_aside xa_last x_hasLived uA n_year tA uA_bo uA_st uA_se ulit umayor unight uoil uborn ustays useen tA_be tA_le tA_mo tA_rn tA_cn tA_bo tA_st Wd R thouses talways tnever nr nc tring tbeside tleast tmost trnames hT) (cwV 0 hts (lw_V q841 q843 qs26 q135 q844) rfl rfl rfl hd_X0_hill ⟨(Nat.le_of_ble_eq_true rfl), (Nat.le_of_ble_eq_true rfl)⟩) hP hK (zE_o hE hS) 0 0 rfl rfl rfl hl.1 rfl (Nat.le_of_ble_eq_true rfl) dX0_heaps_29 ⟨Nat.le_refl _, Nat.le_refl _⟩ ?_
    refine va_getN (D := G.1) (ci := 5) (v := .int ulit) (C := RX5) (T := TX5) (N := 8) hx hb hts in_X5 hown hK.1 hP 2 rfl rfl 4 (Nat.le_of_ble_eq_true rfl) ((hK.2.1.1 _ (List.mem_of_getElem? (i := 14) rfl)).use rfl) (fun _ h => h) rfl dX0_heaps_32 ?_
    refine lv_istore_n (lv' := [(2, .int ulit), (0, .ref xA), (1, .int what)]) hx hb dX0_heaps_35 rfl hl (by decide) rfl (fun ls hl => ?_)
    refine lv_iconst (v := 0) hx hb dX0_heaps_36 (by decide) ?_
    refine lv_istore_n (lv' := [(3, .int 0), (2, .int ulit), (0, .ref xA), (1, .int what)]) hx hb dX0_heaps_37 rfl hl (by decide) rfl (fun ls hl => ?_)
    refine lv_iconst (v := 0) hx hb dX0_heaps_38 (by decide) ?_
    refine lv_istore (lv' := [(4, .int 0), (3, .int 0), (2, .int ulit), (0, .ref xA), (1, .int what)]) hx hb dX0_heaps_39 hl (by decide) rfl (fun ls hl => ?_)
    have hx_2 : ∀ t_2 : Int32 × Int32 × Int32, xf_heaps_L41 ulit Wd R tbeside (0, 0, ulit) = t_2 → ∀ (H : Heap) (locs : List Loc), va_P G.1 zcl ((xA_ G xA xa_trays xa_tape x_taped x_faultKind x_faultAt xa_bad xa_refused 0 x_above x_under nA xa_marks x_markMany xa_pictures x_lead x_round xa_ways x_bestSet x_bestMany x_left xa_aside xa_last x_hasLived uA n_year) ++ (hW G uA tA uA_bo uA_st uA_se ulit umayor unight uoil uborn ustays useen) ++ (tW G tA tA_be tA_le tA_mo tA_rn tA_cn tA_bo tA_st (nI Wd) (nI R) thouses talways tnever (nI nr) (nI nc) tring tbeside tleast tmost trnames)) H → va_D A ((xA_ G xA xa_trays xa_tape x_taped x_faultKind x_faultAt xa_bad xa_refused 0 x_above x_under nA xa_marks x_markMany xa_pictures x_lead x_round xa_ways x_bestSet x_bestMany x_left xa_aside xa_last x_hasLived uA n_year) ++ (hW G uA tA uA_bo uA_st uA_se ulit umayor unight uoil uborn ustays useen) ++ (tW G tA tA_be tA_le tA_mo tA_rn tA_cn tA_bo tA_st (nI Wd) (nI R) thouses talways tnever (nI nr) (nI nc) tring tbeside tleast tmost trnames)) → va_S A s.heap H locs → ∀ ls : Array Slot, lv_has ls 6 [(4, .int t_2.1), (3, .int t_2.2.1), (1, .int what)] → W p l e (zR 3 0 0) s m ([.ref xA, .int what] : List Value).toArray below meth c H locs 0 0 (MQ below (zQm G (True) (some (.int ((xf_heaps ulit Wd R tbeside what).1))) ((xA_ G xA xa_trays xa_tape x_taped x_faultKind x_faultAt xa_bad xa_refused ((xf_heaps ulit Wd R tbeside what).2) x_above x_under nA xa_marks x_markMany xa_pictures x_lead x_round xa_ways x_bestSet x_bestMany x_left xa_aside xa_last x_hasLived uA n_year) ++ (hW G uA tA uA_bo uA_st uA_se ulit umayor unight uoil uborn ustays useen) ++ (tW G tA tA_be tA_le tA_mo tA_rn tA_cn tA_bo tA_st (nI Wd) (nI R) thouses talways tnever (nI nr) (nI nc) tring tbeside tleast tmost trnames)) A) ([.ref xA, .int what] : List Value).toArray s 0 0 A) (F0 m 80 ls []) := by
      intro t_2 ht_2 H locs hP hD hS ls hl
      refine lv_iload_n hx hb dX0_heaps_80 rfl (lv_at hl 2 rfl) ?_
      refine lv_if_ne (tgt := 88) hx hb dX0_heaps_81 (by decide) (fun c_4 => ?_) (fun c_4 => ?_)
      · refine lv_iload hx hb dX0_heaps_88 (lv_at hl 0 rfl) ?_
        have e_ : xf_heaps ulit Wd R tbeside what = (t_2.1, 0) := by rw [xf_heaps, if_pos c_1, zlet_eq ht_2, if_neg c_4]
        exact zr_mi hx hb hr hlocks hP hD hS dX0_heaps_90 (by rw [e_])  (by rw [e_]) trivial
      · refine lv_iload_n hx hb dX0_heaps_84 rfl (lv_at hl 1 rfl) ?_
        refine lv_goto (tgt := 90) hx hb dX0_heaps_85 (by decide) ?_
        have e_ : xf_heaps ulit Wd R tbeside what = (t_2.2.1, 0) := by rw [xf_heaps, if_pos c_1, zlet_eq ht_2, if_pos c_4]
        exact zr_mi hx hb hr hlocks hP hD hS dX0_heaps_90 (by rw [e_])  (by rw [e_]) trivial
    have hlp_2 : ∀ (n : Nat) (s_2 : Int32 × Int32 × Int32), zpc s_2.2.2 < n → zw (xf_heaps_B41 ulit Wd R tbeside) (0, 0, ulit) n s_2 = xf_heaps_L41 ulit Wd R tbeside (0, 0, ulit) → ∀ (H : Heap) (locs : List Loc), va_P G.1 zcl ((xA_ G xA xa_trays xa_tape x_taped x_faultKind x_faultAt xa_bad xa_refused 0 x_above x_under nA xa_marks x_markMany xa_pictures x_lead x_round xa_ways x_bestSet x_bestMany x_left xa_aside xa_last x_hasLived uA n_year) ++ (hW G uA tA uA_bo uA_st uA_se ulit umayor unight uoil uborn ustays useen) ++ (tW G tA tA_be tA_le tA_mo tA_rn tA_cn tA_bo tA_st (nI Wd) (nI R) thouses talways tnever (nI nr) (nI nc) tring tbeside tleast tmost trnames)) H → va_D A ((xA_ G xA xa_trays xa_tape x_taped x_faultKind x_faultAt xa_bad xa_refused 0 x_above x_under nA xa_marks x_markMany xa_pictures x_lead x_round xa_ways x_bestSet x_bestMany x_left xa_aside xa_last x_hasLived uA n_year) ++ (hW G uA tA uA_bo uA_st uA_se ulit umayor unight uoil uborn ustays useen) ++ (tW G tA tA_be tA_le tA_mo tA_rn tA_cn tA_bo tA_st (nI Wd) (nI R) thouses talways tnever (nI nr) (nI nc) tring tbeside tleast tmost trnames)) → va_S A s.heap H locs → ∀ ls : Array Slot, lv_has ls 6 [(4, .int s_2.1), (3, .int s_2.2.1), (2, .int s_2.2.2), (0, .ref xA), (1, .int what)] → W p l e (zR 3 0 0) s m ([.ref xA, .int what] : List Value).toArray below meth c H locs 0 0 (MQ below (zQm G (True) (some (.int ((xf_heaps ulit Wd R tbeside what).1))) ((xA_ G xA xa_trays xa_tape x_taped x_faultKind x_faultAt xa_bad xa_refused ((xf_heaps ulit Wd R tbeside what).2) x_above x_under nA xa_marks x_markMany xa_pictures x_lead x_round xa_ways x_bestSet x_bestMany x_left xa_aside xa_last x_hasLived uA n_year) ++ (hW G uA tA uA_bo uA_st uA_se ulit umayor unight uoil uborn ustays useen) ++ (tW G tA tA_be tA_le tA_mo tA_rn tA_cn tA_bo tA_st (nI Wd) (nI R) thouses talways tnever (nI nr) (nI nc) tring tbeside tleast tmost trnames)) A) ([.ref xA, .int what] : List Value).toArray s 0 0 A) (F0 m 41 ls []) := by
      intro n
      induction n with
      | zero => exact fun _ h => absurd h (Nat.not_lt_zero _)
      | succ n ih_2 =>
        intro s_2 hmu_2 hR_2 H locs hP hD hS ls hl
        refine lv_iload_n hx hb dX0_heaps_41 rfl (lv_at hl 2 rfl) ?_
        refine lv_if_eq (tgt := 80) hx hb dX0_heaps_42 (by decide) (fun c_3 => ?_) (fun c_3 => ?_)
        · exact hx_2 (s_2.1, s_2.2.1, s_2.2.2) (hR_2.symm.trans (zw_r (by rw [xf_heaps_B41, if_pos c_3]))) H locs hP hD hS ls (lv_sub hl [0, 1, 4] rfl)
        · refine lv_aload_n hx hb dX0_heaps_45 rfl (lv_at hl 3 rfl) ?_
          refine lv_iload_n hx hb dX0_heaps_46 rfl (lv_at hl 2 rfl) ?_
          refine zr_puS ⟨hx, hb, hml, hown, hts⟩ (mt_jf_ntz l s_2.2.2) (va_cwS 1 hts (lw_S q1299 q1300 q155 q1301) rfl rfl rfl hd_J10_numberOfTrailingZeros.2 ⟨(Nat.le_of_ble_eq_true rfl), (Nat.le_of_ble_eq_true rfl)⟩) rfl hl.1 rfl (Nat.le_of_ble_eq_true rfl) dX0_heaps_47 ⟨Nat.le_refl _, Nat.le_refl _⟩ ?_
          refine zr_obV ⟨hx, hb, hml, hown, hts⟩ (mt_xf_heapOf l G xA xa_trays xa_tape x_taped x_faultKind x_faultAt xa_bad xa_refused 0 x_above x_under nA xa_marks x_markMany xa_pictures x_lead x_round xa_ways x_bestSet x_bestMany x_left xa_aside xa_last x_hasLived uA n_year tA uA_bo uA_st uA_se ulit umayor unight uoil uborn ustays useen tA_be tA_le tA_mo tA_rn tA_cn tA_bo tA_st Wd R thouses talways tnever nr nc tring tbeside tleast tmost trnames (jf_ntz s_2.2.2) hT) (cwV 1 hts (lw_V q1303 q1305 qs53 q135 q1306) rfl rfl rfl hd_X0_heapOf ⟨(Nat.le_of_ble_eq_true rfl), (Nat.le_of_ble_eq_true rfl)⟩) hP hK (zE_o hE hS) 0 0 rfl rfl rfl hl.1 rfl (Nat.le_of_ble_eq_true rfl) dX0_heaps_50 ⟨Nat.le_refl _, Nat.le_refl _⟩ ?_
          refine lv_istore (lv' := [(5, .int (xf_heapOf ulit Wd R tbeside (jf_ntz s_2.2.2))), (4, .int s_2.1), (3, .int s_2.2.1), (2, .int s_2.2.2), (0, .ref xA), (1, .int what)]) hx hb dX0_heaps_53 hl (by decide) rfl (fun ls hl => ?_)
          refine lv_iinc (v := s_2.2.1 + 1) (lv' := [(3, .int (s_2.2.1 + 1)), (5, .int (xf_heapOf ulit Wd R tbeside (jf_ntz s_2.2.2))), (4, .int s_2.1), (2, .int s_2.2.2), (0, .ref xA), (1, .int what)]) hx hb dX0_heaps_55 hl (k := 2) rfl (rfl) (by decide) rfl (fun ls hl => ?_)
          refine lv_iload hx hb dX0_heaps_58 (lv_at hl 2 rfl) ?_
          refine lv_iload hx hb dX0_heaps_60 (lv_at hl 1 rfl) ?_
          refine zr_puS ⟨hx, hb, hml, hown, hts⟩ (mt_xf_many l (xf_heapOf ulit Wd R tbeside (jf_ntz s_2.2.2))) (va_cwS 1 hts (lw_S q850 q851 q135 q852) rfl rfl rfl hd_X0_many.2 ⟨(Nat.le_of_ble_eq_true rfl), (Nat.le_of_ble_eq_true rfl)⟩) rfl hl.1 rfl (Nat.le_of_ble_eq_true rfl) dX0_heaps_62 ⟨Nat.le_refl _, Nat.le_refl _⟩ ?_
          refine va_mmax (x := s_2.1) (y := nI (zpc (xf_heapOf ulit Wd R tbeside (jf_ntz s_2.2.2)))) hx hb (hml.trans hl.1.symm) hown (hts _ q1148) (hts _ q1149) (hts _ q156) (hts _ q1150) (Nat.le_of_ble_eq_true rfl) (Nat.le_of_ble_eq_true rfl) (Nat.le_refl _) (Nat.le_refl _) dX0_heaps_65 ?_
          refine W.eq (g2 := F0 m 68 ls [.int (zmax s_2.1 (nI (zpc (xf_heapOf ulit Wd R tbeside (jf_ntz s_2.2.2)))))]) rfl ?_
          refine lv_istore (lv' := [(4, .int (zmax s_2.1 (nI (zpc (xf_heapOf ulit Wd R tbeside (jf_ntz s_2.2.2)))))), (3, .int (s_2.2.1 + 1)), (5, .int (xf_heapOf ulit Wd R tbeside (jf_ntz s_2.2.2))), (2, .int s_2.2.2), (0, .ref xA), (1, .int what)]) hx hb dX0_heaps_68 hl (by decide) rfl (fun ls hl => ?_)
          refine lv_iload_n hx hb dX0_heaps_70 rfl (lv_at hl 3 rfl) ?_
          refine lv_iload hx hb dX0_heaps_71 (lv_at hl 2 rfl) ?_
          refine lv_iconst (v := (-1)) hx hb dX0_heaps_73 (by decide) ?_
          refine lv_ixor hx hb dX0_heaps_74 ?_
          refine lv_iand hx hb dX0_heaps_75 ?_
          refine lv_istore_n (lv' := [(2, .int (s_2.2.2 &&& ((xf_heapOf ulit Wd R tbeside (jf_ntz s_2.2.2)) ^^^ (-1)))), (4, .int (zmax s_2.1 (nI (zpc (xf_heapOf ulit Wd R tbeside (jf_ntz s_2.2.2)))))), (3, .int (s_2.2.1 + 1)), (5, .int (xf_heapOf ulit Wd R tbeside (jf_ntz s_2.2.2))), (0, .ref xA), (1, .int what)]) hx hb dX0_heaps_76 rfl hl (by decide) rfl (fun ls hl => ?_)
          refine lv_goto (tgt := 41) hx hb dX0_heaps_77 (by decide) ?_
          exact ih_2 (zmax s_2.1 (nI (zpc (xf_heapOf ulit Wd R tbeside (jf_ntz s_2.2.2)))), s_2.2.1 + 1, s_2.2.2 &&& ((xf_heapOf ulit Wd R tbeside (jf_ntz s_2.2.2)) ^^^ (-1))) (by first | exact heaps_mu hmu_2 (by assumption) | (dsimp only; exact heaps_mu hmu_2 (by assumption))) ((zw_l (by rw [xf_heaps_B41, if_neg c_3])).symm.trans hR_2) H locs hP hD hS ls (lv_sub hl [1, 2, 0, 4, 5] rfl)
    exact hlp_2 _ (0, 0, ulit) (Nat.lt_succ_self _) (by rw [xf_heaps_L41]) H locs hP hD hS ls (lv_sub hl [0, 1, 2, 3, 4] rfl)
