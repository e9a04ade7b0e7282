/-! y1: years: the tree of steps, what a run does, its cells -/
abbrev yS : Type := Int32 × Int32 × Int32 × Int32 × Int32 × Int32 × Bool × Bool × Int32 × Int32 × Int32 × Int32 × (Nat → Int32)
abbrev yD : Type := Nat × Nat × Nat × Nat × Int32 × Int32 × Int32 × Bool × (Nat → Int32) × (Nat → Int32) × (Nat → Int32) × (Nat → Int32) × (Nat → Int32) × (Nat → Int64)
abbrev yC : Type := (Nat → Nat) × yD
def zLH (G : zG) (κ : yC) (σ : yS) : va_W := lW_ G (κ.1 0) (κ.1 1) σ.1 σ.2.1 σ.2.2.1 σ.2.2.2.1 σ.2.2.2.2.1 σ.2.2.2.2.2.1 σ.2.2.2.2.2.2.1 σ.2.2.2.2.2.2.2.1 ++ hW G (κ.1 1) (κ.1 2) (κ.1 3) (κ.1 4) (κ.1 5) σ.2.2.2.2.2.2.2.2.1 σ.2.2.2.2.2.2.2.2.2.1 σ.2.2.2.2.2.2.2.2.2.2.1 σ.2.2.2.2.2.2.2.2.2.2.2.1 κ.2.2.2.2.2.2.2.2.2.1 κ.2.2.2.2.2.2.2.2.2.2.1 σ.2.2.2.2.2.2.2.2.2.2.2.2 ++ tW G (κ.1 2) (κ.1 6) (κ.1 7) (κ.1 8) (κ.1 9) (κ.1 10) (κ.1 11) (κ.1 12) (nI κ.2.1) (nI κ.2.2.1) κ.2.2.2.2.2.1 κ.2.2.2.2.2.2.1 κ.2.2.2.2.2.2.2.1 (nI κ.2.2.2.1) (nI κ.2.2.2.2.1) κ.2.2.2.2.2.2.2.2.1 κ.2.2.2.2.2.2.2.2.2.2.2.1 κ.2.2.2.2.2.2.2.2.2.2.2.2.1 κ.2.2.2.2.2.2.2.2.2.2.2.2.2.1 κ.2.2.2.2.2.2.2.2.2.2.2.2.2.2
def yAct (δ : yD) (w : Int32) (k : Nat) (σ : yS) : yS :=
  zlet (yf_actdoes w k σ.1 σ.2.2.1 σ.2.2.2.1 σ.2.2.2.2.1 σ.2.2.2.2.2.1 σ.2.2.2.2.2.2.1 σ.2.2.2.2.2.2.2.2.1 σ.2.2.2.2.2.2.2.2.2.1 σ.2.2.2.2.2.2.2.2.2.2.1 σ.2.2.2.2.2.2.2.2.2.2.2.1 δ.2.2.2.2.2.2.2.2.1 δ.2.2.2.2.2.2.2.2.2.1 σ.2.2.2.2.2.2.2.2.2.2.2.2 δ.1 δ.2.1 δ.2.2.2.2.1 δ.2.2.2.2.2.1 δ.2.2.2.2.2.2.1 δ.2.2.1 δ.2.2.2.1 δ.2.2.2.2.2.2.2.2.2.2.1 δ.2.2.2.2.2.2.2.2.2.2.2.1 δ.2.2.2.2.2.2.2.2.2.2.2.2.1) (fun t => (t.1, σ.2.1, t.2.1, t.2.2.1, t.2.2.2.1, t.2.2.2.2.1, t.2.2.2.2.2.1, σ.2.2.2.2.2.2.2.1, t.2.2.2.2.2.2.1, t.2.2.2.2.2.2.2.1, t.2.2.2.2.2.2.2.2.1, t.2.2.2.2.2.2.2.2.2.1, t.2.2.2.2.2.2.2.2.2.2))
def yIs (δ : yD) (w k s : Int32) (σ : yS) : Bool := yf_is w k s σ.2.2.2.2.2.2.2.2.1 σ.2.2.2.2.2.2.2.2.2.1 δ.2.2.2.2.2.2.2.2.1 δ.2.2.2.2.2.2.2.2.2.1 δ.1 δ.2.1 δ.2.2.2.2.1 δ.2.2.2.2.2.1 δ.2.2.2.2.2.2.1 δ.2.2.2.2.2.2.2.2.2.2.1
def yTs (α : Type) : Type := (Int32 × Nat) ⊕ ((Nat × List α) ⊕ ((Int32 × Int32 × Int32) × List α))
def yT : Nat → Type
  | 0 => Int32 × Nat
  | n + 1 => yTs (yT n)
def yGo (doe : yS → yS) (σ : yS) : yS := if σ.2.1 = 300 then (σ.1, σ.2.1, σ.2.2.1, σ.2.2.2.1, σ.2.2.2.2.1, σ.2.2.2.2.2.1, true, true, σ.2.2.2.2.2.2.2.2.1, σ.2.2.2.2.2.2.2.2.2.1, σ.2.2.2.2.2.2.2.2.2.2.1, σ.2.2.2.2.2.2.2.2.2.2.2.1, σ.2.2.2.2.2.2.2.2.2.2.2.2) else doe (σ.1, σ.2.1 + 1, σ.2.2)
def yAll {α : Type} (go : α → yS → yS) : List α → yS → yS
  | [], σ => σ
  | t :: ts, σ => if σ.2.2.2.2.2.2.1 = true then σ else yAll go ts (go t σ)
def yLoop (all : yS → yS) : Nat → yS → yS
  | 0, σ => σ
  | n + 1, σ => if σ.2.2.2.2.2.2.1 = true then σ else yLoop all n (all σ)
def yDoS {α : Type} (δ : yD) (go : α → yS → yS) : yTs α → yS → yS
  | .inl t, σ => yAct δ t.1 t.2 σ
  | .inr (.inl b), σ => yLoop (yAll go b.2) b.1 σ
  | .inr (.inr b), σ => if yIs δ b.1.1 b.1.2.1 b.1.2.2 σ = true then yAll go b.2 σ else σ
def yDoes (δ : yD) : (n : Nat) → yT n → yS → yS
  | 0 => fun t σ => yAct δ t.1 t.2 σ
  | n + 1 => yDoS δ (fun t => yGo (yDoes δ n t))
def yOKc (κ : yC) : Prop := tOK κ.2.1 κ.2.2.1 κ.2.2.2.1 κ.2.2.2.2.1 ∧ ∀ k, k < κ.2.1 * κ.2.2.1 → zpc (κ.2.2.2.2.2.2.2.2.2.2.2.1 k) ≤ 4
def yMy (κ : yC) (σ : yS) : Prop := σ.2.2.2.2.2.2.2.2.2.1 < 0 ∨ (¬ σ.2.2.2.2.2.2.2.2.2.1 < 0 ∧ (σ.2.2.2.2.2.2.2.2.2.1).toNatClampNeg < κ.2.2.2.1)
def yWfA (nr : Nat) (t : Int32 × Nat) : Prop := t.2 ≤ 99 ∧ (t.1 = 2 → t.2 < nr)
def yWfS {α : Type} (nr : Nat) (wf : α → Prop) : yTs α → Prop
  | .inl t => yWfA nr t
  | .inr (.inl b) => b.1 ≤ 99 ∧ ∀ x ∈ b.2, wf x
  | .inr (.inr b) => ∀ x ∈ b.2, wf x
def yWf (nr : Nat) : (n : Nat) → yT n → Prop
  | 0 => yWfA nr
  | n + 1 => yWfS nr (yWf nr n)
/-- cells: an array of steps, a loop, children, a tree -/
def zAr (G : zG) (q cap : Nat) (as : List Nat) : va_W := [(q, .inl (G.2 6, cap, .inr (.inr (.inr (.inr (fun i => as[i]?))))))]
def zLo (G : zG) (b q n times : Nat) : va_W := [(b, .inr (9, [.ref q, .int (nI n), .int (nI times)]))]
def zCh {α : Type} (tc : α → Nat → va_W → Prop) : List α → List Nat → va_W → Prop
  | [], as, ws => as = [] ∧ ws = []
  | t :: ts, as, ws => ∃ (a : Nat) (as' : List Nat) (w1 w2 : va_W), as = a :: as' ∧ ws = w1 ++ w2 ∧ tc t a w1 ∧ zCh tc ts as' w2
def zTS {α : Type} (G : zG) (tc : α → Nat → va_W → Prop) : yTs α → Nat → va_W → Prop
  | .inl t, a, ws => ws = aW_ G a t.1 (nI t.2)
  | .inr (.inl b), a, ws => ∃ (q cap : Nat) (as : List Nat) (ks : va_W), as.length ≤ cap ∧ cap ≤ 64 ∧ zCh tc b.2 as ks ∧ ws = zLo G a q as.length b.1 ++ (zAr G q cap as ++ ks)
  | .inr (.inr b), a, ws => ∃ (q cap : Nat) (as : List Nat) (ks : va_W), as.length ≤ cap ∧ cap ≤ 64 ∧ zCh tc b.2 as ks ∧ ws = wW_ G a q (nI as.length) b.1.1 b.1.2.1 b.1.2.2 ++ (zAr G q cap as ++ ks)
def zTr (G : zG) : (n : Nat) → yT n → Nat → va_W → Prop
  | 0 => fun t a ws => ws = aW_ G a t.1 (nI t.2)
  | n + 1 => zTS G (zTr G n)
theorem zCh_len {α : Type} {tc : α → Nat → va_W → Prop} : ∀ {cs : List α} {as : List Nat} {ws : va_W}, zCh tc cs as ws → cs.length = as.length
  | [], as, ws, h => by rw [h.1]; rfl
  | t :: ts, as, ws, h => by
    obtain ⟨a, as', w1, w2, rfl, -, -, h2⟩ := h
    rw [List.length_cons, List.length_cons, zCh_len h2]
theorem zCh_get {α : Type} {tc : α → Nat → va_W → Prop} : ∀ {cs : List α} {as : List Nat} {ws : va_W}, zCh tc cs as ws → ∀ (i : Nat) (t : α) (a : Nat), cs[i]? = some t → as[i]? = some a → ∃ w1 wr : va_W, ws.Perm (wr ++ w1) ∧ tc t a w1
  | [], as, ws, h, i, t, a, hi, _ => by simp at hi
  | t0 :: ts, as, ws, h, i, t, a, hi, ha => by
    obtain ⟨a0, as', w1, w2, rfl, rfl, h1, h2⟩ := h
    cases i with
    | zero =>
      rw [List.getElem?_cons_zero] at hi ha
      cases hi; cases ha
      exact ⟨w1, w2, List.perm_append_comm, h1⟩
    | succ i =>
      rw [List.getElem?_cons_succ] at hi ha
      obtain ⟨v1, vr, hp, ht⟩ := zCh_get h2 i t a hi ha
      exact ⟨v1, w1 ++ vr, by rw [List.append_assoc]; exact List.Perm.append_left w1 hp, ht⟩
theorem zCh_app {α : Type} {tc : α → Nat → va_W → Prop} {t : α} {a : Nat} {w : va_W} (ht : tc t a w) : ∀ {cs : List α} {as : List Nat} {ws : va_W}, zCh tc cs as ws → zCh tc (cs ++ [t]) (as ++ [a]) (ws ++ w)
  | [], as, ws, h => by
    rw [h.1, h.2]
    exact ⟨a, [], w, [], rfl, by simp, ht, rfl, rfl⟩
  | t0 :: ts, as, ws, h => by
    obtain ⟨a0, as', w1, w2, rfl, rfl, h1, h2⟩ := h
    exact ⟨a0, as' ++ [a], w1, w2 ++ w, rfl, by rw [List.append_assoc], h1, zCh_app ht h2⟩
theorem zpk {L B A ks wr w1 : va_W} (h : ks.Perm (wr ++ w1)) : (L ++ (B ++ (A ++ ks))).Perm ((B ++ (A ++ wr)) ++ (L ++ w1)) := by
  have h1 : (B ++ (A ++ ks)).Perm ((B ++ (A ++ wr)) ++ w1) := by
    rw [List.append_assoc, List.append_assoc]
    exact List.Perm.append_left B (List.Perm.append_left A h)
  exact (List.Perm.append_left L h1).trans (List.perm_append_comm_assoc L (B ++ (A ++ wr)) w1)
theorem zpk' {L B A ks wr w1 : va_W} (h : ks.Perm (wr ++ w1)) : ((B ++ (A ++ wr)) ++ (L ++ w1)).Perm (L ++ (B ++ (A ++ ks))) := (zpk h).symm
set_option maxHeartbeats 4000000 in
set_option maxRecDepth 100000 in
theorem mt_go {ci : Nat} {q : vw_C} {fs : List Value} {y : MethodName} {cc : ByteArray} {maxL : Nat} (l : Launch) (G : zG) (κ : yC) (a : Nat) (tw : va_W) (w0 : yS → va_W) (doe : yS → yS) (D q0 : Nat) (hci : zcl[ci]? = some q) (he : ∀ σ, (w0 σ)[q0]? = some (a, .inr (ci, fs))) (hw : ∀ σ, (zLH G κ σ ++ tw).Perm (w0 σ)) (hg : GoodIn lw_all (va_wsU RX9 22 q.1 RX9 ⟨"WindowHill$Step", "does", "(LWindowHill$Living;)V"⟩ y (ws_ y cc maxL none))) (hmx : maxL ≤ 3) (hdo : ∀ σ, yMy κ σ → ∀ sz, Met l y (ws_ y cc maxL none) (zR D 0 0) (zPm G sz [.ref a, .ref (κ.1 0)] (w0 σ)) (zQm G (yMy κ (doe σ)) none (w0 (doe σ)) (va_A (w0 σ) sz)) 0 0 (va_A (w0 σ) sz)) (σ : yS) (hm : yMy κ σ) (sz : Nat) : Met l yX9_go (ws_ yX9_go cX9_go 2 none) (zR (D + 1) 0 0) (zPm G sz [.ref a, .ref (κ.1 0)] (zLH G κ σ ++ tw)) (zQm G (yMy κ (yGo doe σ)) none (zLH G κ (yGo doe σ) ++ tw) (va_A (zLH G κ σ ++ tw) sz)) 0 0 (va_A (zLH G κ σ ++ tw) sz) := by
  refine zr_entM (by decide) (Nat.le_of_ble_eq_true rfl) ?_
  intro p e s m below meth c ⟨hx, hb, hr, hml, hown, hts, hlocks, hnm⟩ ls hl hP hK A hE hA hD hS
  have hown : s.vm.findClass RX9 = some m.cls := hown
  have hl : lv_has ls 2 [(0, .ref a), (1, .ref (κ.1 0))] := hl
  obtain ⟨H, hH⟩ : ∃ H, H = s.heap := ⟨_, rfl⟩
  obtain ⟨locs, hlo⟩ : ∃ L : List Loc, L = [] := ⟨_, rfl⟩
  rw [← hH] at hP
  have hS : va_S A s.heap H locs := by rw [hH, hlo]; exact va_S.rf
  have hgo : W p l e (zR (D + 1) 0 0) s m ([.ref a, .ref (κ.1 0)] : List Value).toArray below meth c H locs 0 0 (MQ below (zQm G (yMy κ (yGo doe σ)) none (zLH G κ (yGo doe σ) ++ tw) A) ([.ref a, .ref (κ.1 0)] : List Value).toArray s 0 0 A) (F0 m 0 ls []) := ?_
  · rw [hH, hlo] at hgo; exact hgo
  clear hH hlo
  refine lv_aload_n hx hb dX9_go_0 rfl (lv_at hl 1 rfl) ?_
  refine va_getN (D := G.1) (ci := 12) (v := .int σ.2.1) (C := RX14) (T := TX14) (N := 9) hx hb hts in_X14 hown hK.1 hP 0 rfl rfl 2 (Nat.le_of_ble_eq_true rfl) ((hK.2.1.1 _ (List.mem_of_getElem? (i := 68) rfl)).use rfl) (fun _ h => h) rfl dX9_go_1 ?_
  refine lv_sipush (v := 300) hx hb dX9_go_4 (by decide) ?_
  refine lv_icmp_ne (tgt := 21) hx hb dX9_go_7 (by decide) (fun h9 => ?_) (fun h9 => ?_)
  · refine lv_aload_n hx hb dX9_go_21 rfl (lv_at hl 1 rfl) ?_
    refine lv_dup hx hb dX9_go_22 rfl ?_
    refine va_getN (D := G.1) (ci := 12) (v := .int σ.2.1) (C := RX14) (T := TX14) (N := 9) hx hb hts in_X14 hown hK.1 hP 0 rfl rfl 2 (Nat.le_of_ble_eq_true rfl) ((hK.2.1.1 _ (List.mem_of_getElem? (i := 68) rfl)).use rfl) (fun _ h => h) rfl dX9_go_23 ?_
    refine lv_iconst (v := 1) hx hb dX9_go_26 (by decide) ?_
    refine lv_iadd hx hb dX9_go_27 ?_
    refine va_putN (D := G.1) (ci := 12) (v := .int (σ.2.1 + 1)) (ty := .int) (C := RX14) (T := TX14) (N := 9) hx hb hts in_X14 tyX14 tyX14_ok nmX14 hown hK.1 hP hD hS 0 rfl rfl 2 (Nat.le_of_ble_eq_true rfl) ((hK.2.1.1 _ (List.mem_of_getElem? (i := 68) rfl)).use rfl) (fun _ h => h) rfl (tyX14_ok 2 (Nat.le_of_ble_eq_true rfl)) rfl rfl (Nat.le_of_ble_eq_true rfl) dX9_go_28 (fun H locs hP hD hS => ?_)
    have hP : va_P G.1 zcl (zLH G κ (σ.1, σ.2.1 + 1, σ.2.2) ++ tw) H := hP
    have hD : va_D A (zLH G κ (σ.1, σ.2.1 + 1, σ.2.2) ++ tw) := hD
    refine lv_aload_n hx hb dX9_go_31 rfl (lv_at hl 0 rfl) ?_
    refine lv_aload_n hx hb dX9_go_32 rfl (lv_at hl 1 rfl) ?_
    refine zr_muPU (F := doe (σ.1, σ.2.1 + 1, σ.2.2)) (ff := fun t => yMy κ t) (rr := fun _ => none) (wr := []) (w0 := w0 (σ.1, σ.2.1 + 1, σ.2.2)) (w1 := fun t => w0 t) (wn := fun t => zLH G κ t ++ tw) (hw _) (fun t => (hw t).symm) ⟨hx, hb, hml, hown, hts⟩ (hdo (σ.1, σ.2.1 + 1, σ.2.2) hm H.size) (va_cwA 1 hts hg rfl rfl rfl (hK.2.1.2.2.2.2.2.1 ⟨"WindowHill$Step", "does", "(LWindowHill$Living;)V"⟩ (List.mem_of_getElem? (i := 9) rfl)) ⟨by decide, by decide, by decide +kernel⟩ ⟨Nat.le_refl _, by show 8 + (maxL + 11) + 64 * D ≤ 64 * (D + 1); omega⟩) hP hD hS hA hK hE q0 ci hci (he _) rfl hl.1 rfl (Nat.le_of_ble_eq_true rfl) dX9_go_33 ⟨Nat.le_refl _, Nat.le_refl _⟩ (fun t ht hft H locs hP hD hS _ => ?_)
    have e_ : yGo doe σ = t := by unfold yGo; rw [if_neg h9]; exact ht
    exact zr_mv hx hb hr hlocks hP hD hS dX9_go_36 rfl (by rw [e_]) (by rw [e_]; exact hft)
  · refine lv_aload_n hx hb dX9_go_10 rfl (lv_at hl 1 rfl) ?_
    refine lv_iconst (v := 1) hx hb dX9_go_11 (by decide) ?_
    refine va_putN (D := G.1) (ci := 12) (v := .int (zb true)) (ty := .boolean) (C := RX14) (T := TX14) (N := 9) hx hb hts in_X14 tyX14 tyX14_ok nmX14 hown hK.1 hP hD hS 0 rfl rfl 7 (Nat.le_of_ble_eq_true rfl) ((hK.2.1.1 _ (List.mem_of_getElem? (i := 69) rfl)).use rfl) (fun _ h => h) rfl (tyX14_ok 7 (Nat.le_of_ble_eq_true rfl)) zb_nar zb_fit (Nat.le_of_ble_eq_true rfl) dX9_go_12 (fun H locs hP hD hS => ?_)
    have hP : va_P G.1 zcl (zLH G κ (σ.1, σ.2.1, σ.2.2.1, σ.2.2.2.1, σ.2.2.2.2.1, σ.2.2.2.2.2.1, true, σ.2.2.2.2.2.2.2.1, σ.2.2.2.2.2.2.2.2.1, σ.2.2.2.2.2.2.2.2.2.1, σ.2.2.2.2.2.2.2.2.2.2.1, σ.2.2.2.2.2.2.2.2.2.2.2.1, σ.2.2.2.2.2.2.2.2.2.2.2.2) ++ tw) H := hP
    have hD : va_D A (zLH G κ (σ.1, σ.2.1, σ.2.2.1, σ.2.2.2.1, σ.2.2.2.2.1, σ.2.2.2.2.2.1, true, σ.2.2.2.2.2.2.2.1, σ.2.2.2.2.2.2.2.2.1, σ.2.2.2.2.2.2.2.2.2.1, σ.2.2.2.2.2.2.2.2.2.2.1, σ.2.2.2.2.2.2.2.2.2.2.2.1, σ.2.2.2.2.2.2.2.2.2.2.2.2) ++ tw) := hD
    refine lv_aload_n hx hb dX9_go_15 rfl (lv_at hl 1 rfl) ?_
    refine lv_iconst (v := 1) hx hb dX9_go_16 (by decide) ?_
    refine va_putN (D := G.1) (ci := 12) (v := .int (zb true)) (ty := .boolean) (C := RX14) (T := TX14) (N := 9) hx hb hts in_X14 tyX14 tyX14_ok nmX14 hown hK.1 hP hD hS 0 rfl rfl 8 (Nat.le_of_ble_eq_true rfl) ((hK.2.1.1 _ (List.mem_of_getElem? (i := 70) rfl)).use rfl) (fun _ h => h) rfl (tyX14_ok 8 (Nat.le_of_ble_eq_true rfl)) zb_nar zb_fit (Nat.le_of_ble_eq_true rfl) dX9_go_17 (fun H locs hP hD hS => ?_)
    have hP : va_P G.1 zcl (zLH G κ (σ.1, σ.2.1, σ.2.2.1, σ.2.2.2.1, σ.2.2.2.2.1, σ.2.2.2.2.2.1, true, true, σ.2.2.2.2.2.2.2.2.1, σ.2.2.2.2.2.2.2.2.2.1, σ.2.2.2.2.2.2.2.2.2.2.1, σ.2.2.2.2.2.2.2.2.2.2.2.1, σ.2.2.2.2.2.2.2.2.2.2.2.2) ++ tw) H := hP
    have hD : va_D A (zLH G κ (σ.1, σ.2.1, σ.2.2.1, σ.2.2.2.1, σ.2.2.2.2.1, σ.2.2.2.2.2.1, true, true, σ.2.2.2.2.2.2.2.2.1, σ.2.2.2.2.2.2.2.2.2.1, σ.2.2.2.2.2.2.2.2.2.2.1, σ.2.2.2.2.2.2.2.2.2.2.2.1, σ.2.2.2.2.2.2.2.2.2.2.2.2) ++ tw) := hD
    have e_ : yGo doe σ = (σ.1, σ.2.1, σ.2.2.1, σ.2.2.2.1, σ.2.2.2.2.1, σ.2.2.2.2.2.1, true, true, σ.2.2.2.2.2.2.2.2.1, σ.2.2.2.2.2.2.2.2.2.1, σ.2.2.2.2.2.2.2.2.2.2.1, σ.2.2.2.2.2.2.2.2.2.2.2.1, σ.2.2.2.2.2.2.2.2.2.2.2.2) := by unfold yGo; rw [if_pos h9]
    exact zr_mv hx hb hr hlocks hP hD hS dX9_go_20 rfl (by rw [e_]) (by rw [e_]; exact hm)
def zGoOK (l : Launch) (G : zG) (κ : yC) (D : Nat) (gt : yS → yS) (a : Nat) (w1 : va_W) : Prop := ∃ (ci : Nat) (q : vw_C) (fs : List Value) (D' : Nat), D' ≤ D ∧ zcl[ci]? = some q ∧ w1[0]? = some (a, .inr (ci, fs)) ∧ GoodIn lw_all (va_wsU RX10 29 q.1 RX9 yX9_go yX9_go (ws_ yX9_go cX9_go 2 none)) ∧ ∀ σ, yMy κ σ → ∀ sz, Met l yX9_go (ws_ yX9_go cX9_go 2 none) (zR D' 0 0) (zPm G sz [.ref a, .ref (κ.1 0)] (zLH G κ σ ++ w1)) (zQm G (yMy κ (gt σ)) none (zLH G κ (gt σ) ++ w1) (va_A (zLH G κ σ ++ w1) sz)) 0 0 (va_A (zLH G κ σ ++ w1) sz)
theorem zLH_len (G : zG) (κ : yC) (σ : yS) : (zLH G κ σ).length = 10 := rfl
theorem yAll_over {α : Type} {go : α → yS → yS} {cs : List α} {σ : yS} (h : σ.2.2.2.2.2.2.1 = true) : yAll go cs σ = σ := by
  cases cs with
  | nil => rfl
  | cons t ts => show (if σ.2.2.2.2.2.2.1 = true then σ else _) = σ; rw [if_pos h]
theorem yLoop_over {all : yS → yS} {n : Nat} {σ : yS} (h : σ.2.2.2.2.2.2.1 = true) : yLoop all n σ = σ := by
  cases n with
  | zero => rfl
  | succ n => show (if σ.2.2.2.2.2.2.1 = true then σ else _) = σ; rw [if_pos h]
set_option maxHeartbeats 4000000 in
set_option maxRecDepth 100000 in
theorem mt_allL {α : Type} (l : Launch) (G : zG) (κ : yC) (b q cap : Nat) (times : Nat) (as : List Nat) (ks : va_W) (cs : List α) (go : α → yS → yS) (D : Nat) (hcap : as.length ≤ cap) (hc64 : cap ≤ 64) (hlen : cs.length = as.length) (hkid : ∀ (i : Nat) (t : α) (a : Nat), cs[i]? = some t → as[i]? = some a → ∃ w1 wr : va_W, ks.Perm (wr ++ w1) ∧ zGoOK l G κ D (go t) a w1) (σ : yS) (hm : yMy κ σ) (sz : Nat) : Met l yX10_all (ws_ yX10_all cX10_all 3 none) (zR (D + 1) 0 0) (zPm G sz [.ref b, .ref (κ.1 0)] (zLH G κ σ ++ (zLo G b q as.length times ++ (zAr G q cap as ++ ks)))) (zQm G (yMy κ (yAll go cs σ)) none (zLH G κ (yAll go cs σ) ++ (zLo G b q as.length times ++ (zAr G q cap as ++ ks))) (va_A (zLH G κ σ ++ (zLo G b q as.length times ++ (zAr G q cap as ++ ks))) sz)) 0 0 (va_A (zLH G κ σ ++ (zLo G b q as.length times ++ (zAr G q cap as ++ ks))) sz) := by
  refine zr_entM (by decide) (Nat.le_of_ble_eq_true rfl) ?_
  intro p e s m below meth c ⟨hx, hb, hr, hml, hown, hts, hlocks, hnm⟩ ls hl hP hK A hE hA hD hS
  have hown : s.vm.findClass RX10 = some m.cls := hown
  have hl : lv_has ls 3 [(0, .ref b), (1, .ref (κ.1 0))] := hl
  obtain ⟨H, hH⟩ : ∃ H, H = s.heap := ⟨_, rfl⟩
  obtain ⟨locs, hlo⟩ : ∃ L : List Loc, L = [] := ⟨_, rfl⟩
  rw [← hH] at hP
  have hS : va_S A s.heap H locs := by rw [hH, hlo]; exact va_S.rf
  have hgo : W p l e (zR (D + 1) 0 0) s m ([.ref b, .ref (κ.1 0)] : List Value).toArray below meth c H locs 0 0 (MQ below (zQm G (yMy κ (yAll go cs σ)) none (zLH G κ (yAll go cs σ) ++ (zLo G b q as.length times ++ (zAr G q cap as ++ ks))) A) ([.ref b, .ref (κ.1 0)] : List Value).toArray s 0 0 A) (F0 m 0 ls []) := ?_
  · rw [hH, hlo] at hgo; exact hgo
  clear hH hlo
  have hlp : ∀ (n k : Nat) (τ : yS), k ≤ as.length → as.length < k + n → yAll go (cs.drop k) τ = yAll go cs σ → yMy κ τ → ∀ (H : Heap) (locs : List Loc), va_P G.1 zcl (zLH G κ τ ++ (zLo G b q as.length times ++ (zAr G q cap as ++ ks))) H → va_D A (zLH G κ τ ++ (zLo G b q as.length times ++ (zAr G q cap as ++ ks))) → va_S A s.heap H locs → ∀ ls : Array Slot, lv_has ls 3 [(2, .int (nI k)), (0, .ref b), (1, .ref (κ.1 0))] → W p l e (zR (D + 1) 0 0) s m ([.ref b, .ref (κ.1 0)] : List Value).toArray below meth c H locs 0 0 (MQ below (zQm G (yMy κ (yAll go cs σ)) none (zLH G κ (yAll go cs σ) ++ (zLo G b q as.length times ++ (zAr G q cap as ++ ks))) A) ([.ref b, .ref (κ.1 0)] : List Value).toArray s 0 0 A) (F0 m 2 ls []) := by
    intro n
    induction n with
    | zero => intro k τ h1 h2; exact absurd h2 (by omega)
    | succ n ih =>
      intro k τ hk hn hst hmt H locs hP hD hS ls hl
      refine lv_iload_n hx hb dX10_all_2 rfl (lv_at hl 0 rfl) ?_
      refine lv_aload_n hx hb dX10_all_3 rfl (lv_at hl 1 rfl) ?_
      refine va_get (D := G.1) (ci := 9) (v := .int (nI as.length)) (C := RX11) (T := TX11) (N := 3) hx hb hts in_X11 hown hK.1 hP 10 rfl rfl 1 (Nat.le_of_ble_eq_true rfl) (hts _ q883) (fun _ h => h) rfl dX10_all_4 ?_
      refine zr_ge k as.length (by omega) (by omega) (tgt := 33) hx hb dX10_all_7 (by decide) (fun h8 => ?_) (fun h8 => ?_)
      · have e_ : yAll go cs σ = τ := hst.symm.trans (by rw [List.drop_eq_nil_of_le (by omega)]; rfl)
        exact zr_mv hx hb hr hlocks hP hD hS dX10_all_33 rfl (by rw [e_]) (by rw [e_]; exact hmt)
      · refine lv_aload_n hx hb dX10_all_10 rfl (lv_at hl 2 rfl) ?_
        refine va_getN (D := G.1) (ci := 12) (v := .int (zb τ.2.2.2.2.2.2.1)) (C := RX14) (T := TX14) (N := 9) hx hb hts in_X14 hown hK.1 hP 0 rfl rfl 7 (Nat.le_of_ble_eq_true rfl) ((hK.2.1.1 _ (List.mem_of_getElem? (i := 42) rfl)).use rfl) (fun _ h => h) rfl dX10_all_11 ?_
        refine zr_neB τ.2.2.2.2.2.2.1 (tgt := 33) hx hb dX10_all_14 (by decide) (fun h9 => ?_) (fun h9 => ?_)
        · have e_ : yAll go cs σ = τ := hst.symm.trans (yAll_over h9)
          exact zr_mv hx hb hr hlocks hP hD hS dX10_all_33 rfl (by rw [e_]) (by rw [e_]; exact hmt)
        · have hlt : k < as.length := by omega
          have hlc : k < cs.length := by omega
          obtain ⟨w1, wr, hpm, ci1, q1, fs1, D1, hD1, hci1, he1, hg1, hM1⟩ := hkid k cs[k] as[k] (List.getElem?_eq_getElem hlc) (List.getElem?_eq_getElem hlt)
          refine lv_aload_n hx hb dX10_all_17 rfl (lv_at hl 1 rfl) ?_
          refine va_get (D := G.1) (ci := 9) (v := .ref q) (C := RX11) (T := TX11) (N := 3) hx hb hts in_X11 hown hK.1 hP 10 rfl rfl 0 (Nat.le_of_ble_eq_true rfl) (hts _ q882) (fun _ h => h) rfl dX10_all_18 ?_
          refine lv_iload_n hx hb dX10_all_21 rfl (lv_at hl 0 rfl) ?_
          refine va_aldq hx hb hK.1 hP 11 6 rfl rfl (z_in (k := k) rfl (by omega) (by omega)) dX10_all_22 ?_
          refine zr_val (v' := .ref as[k]) (by rw [nI_clamp (by omega)]; show va_rf (as[k]?) = _; rw [List.getElem?_eq_getElem hlt]; rfl) ?_
          refine lv_aload_n hx hb dX10_all_23 rfl (lv_at hl 2 rfl) ?_
          refine zr_muPU (F := go cs[k] τ) (ff := fun t => yMy κ t) (rr := fun _ => none) (wr := zLo G b q as.length times ++ (zAr G q cap as ++ wr)) (w0 := zLH G κ τ ++ w1) (w1 := fun t => zLH G κ t ++ w1) (wn := fun t => zLH G κ t ++ (zLo G b q as.length times ++ (zAr G q cap as ++ ks))) (zpk hpm) (fun t => zpk' hpm) ⟨hx, hb, hml, hown, hts⟩ (hM1 τ hmt H.size) (va_cwU 1 hts hg1 rfl rfl rfl rfl ⟨by decide, by decide, by decide +kernel⟩ ⟨Nat.succ_le_succ hD1, by show 8 + (2 + 11) + 64 * D1 ≤ 64 * (D + 1); omega⟩) hP hD hS hA hK hE 10 ci1 hci1 ((List.getElem?_append_right (by rw [zLH_len]; exact Nat.le_refl _)).trans (by rw [zLH_len]; exact he1)) rfl hl.1 rfl (Nat.le_of_ble_eq_true rfl) dX10_all_24 ⟨Nat.le_refl _, Nat.le_refl _⟩ (fun t ht hft H locs hP hD hS _ => ?_)
          refine lv_iinc (v := nI (k + 1)) (lv' := [(2, .int (nI (k + 1))), (0, .ref b), (1, .ref (κ.1 0))]) hx hb dX10_all_27 hl (k := 0) rfl (nI_add k 1) (by decide) rfl (fun ls hl => ?_)
          refine lv_goto (tgt := 2) hx hb dX10_all_30 (by decide) ?_
          refine ih (k + 1) t (by omega) (by omega) (Eq.trans ?_ hst) hft H locs hP hD hS ls hl
          rw [List.drop_eq_getElem_cons hlc]
          show _ = (if τ.2.2.2.2.2.2.1 = true then τ else yAll go (cs.drop (k + 1)) (go cs[k] τ))
          rw [if_neg h9, ht]
  refine lv_iconst (v := 0) hx hb dX10_all_0 (by decide) ?_
  refine lv_istore_n (lv' := [(2, .int (nI 0)), (0, .ref b), (1, .ref (κ.1 0))]) hx hb dX10_all_1 rfl hl (by decide) rfl (fun ls hl => ?_)
  exact hlp (as.length + 1) 0 σ (Nat.zero_le _) (by omega) rfl hm H locs hP hD hS ls hl
set_option maxHeartbeats 4000000 in
set_option maxRecDepth 100000 in
theorem mt_allW {α : Type} (l : Launch) (G : zG) (κ : yC) (b q cap : Nat) (w_what w_num w_sign : Int32) (as : List Nat) (ks : va_W) (cs : List α) (go : α → yS → yS) (D : Nat) (hcap : as.length ≤ cap) (hc64 : cap ≤ 64) (hlen : cs.length = as.length) (hkid : ∀ (i : Nat) (t : α) (a : Nat), cs[i]? = some t → as[i]? = some a → ∃ w1 wr : va_W, ks.Perm (wr ++ w1) ∧ zGoOK l G κ D (go t) a w1) (σ : yS) (hm : yMy κ σ) (sz : Nat) : Met l yX10_all (ws_ yX10_all cX10_all 3 none) (zR (D + 1) 0 0) (zPm G sz [.ref b, .ref (κ.1 0)] (zLH G κ σ ++ (wW_ G b q (nI as.length) w_what w_num w_sign ++ (zAr G q cap as ++ ks)))) (zQm G (yMy κ (yAll go cs σ)) none (zLH G κ (yAll go cs σ) ++ (wW_ G b q (nI as.length) w_what w_num w_sign ++ (zAr G q cap as ++ ks))) (va_A (zLH G κ σ ++ (wW_ G b q (nI as.length) w_what w_num w_sign ++ (zAr G q cap as ++ ks))) sz)) 0 0 (va_A (zLH G κ σ ++ (wW_ G b q (nI as.length) w_what w_num w_sign ++ (zAr G q cap as ++ ks))) sz) := by
  refine zr_entM (by decide) (Nat.le_of_ble_eq_true rfl) ?_
  intro p e s m below meth c ⟨hx, hb, hr, hml, hown, hts, hlocks, hnm⟩ ls hl hP hK A hE hA hD hS
  have hown : s.vm.findClass RX10 = some m.cls := hown
  have hl : lv_has ls 3 [(0, .ref b), (1, .ref (κ.1 0))] := hl
  obtain ⟨H, hH⟩ : ∃ H, H = s.heap := ⟨_, rfl⟩
  obtain ⟨locs, hlo⟩ : ∃ L : List Loc, L = [] := ⟨_, rfl⟩
  rw [← hH] at hP
  have hS : va_S A s.heap H locs := by rw [hH, hlo]; exact va_S.rf
  have hgo : W p l e (zR (D + 1) 0 0) s m ([.ref b, .ref (κ.1 0)] : List Value).toArray below meth c H locs 0 0 (MQ below (zQm G (yMy κ (yAll go cs σ)) none (zLH G κ (yAll go cs σ) ++ (wW_ G b q (nI as.length) w_what w_num w_sign ++ (zAr G q cap as ++ ks))) A) ([.ref b, .ref (κ.1 0)] : List Value).toArray s 0 0 A) (F0 m 0 ls []) := ?_
  · rw [hH, hlo] at hgo; exact hgo
  clear hH hlo
  have hlp : ∀ (n k : Nat) (τ : yS), k ≤ as.length → as.length < k + n → yAll go (cs.drop k) τ = yAll go cs σ → yMy κ τ → ∀ (H : Heap) (locs : List Loc), va_P G.1 zcl (zLH G κ τ ++ (wW_ G b q (nI as.length) w_what w_num w_sign ++ (zAr G q cap as ++ ks))) H → va_D A (zLH G κ τ ++ (wW_ G b q (nI as.length) w_what w_num w_sign ++ (zAr G q cap as ++ ks))) → va_S A s.heap H locs → ∀ ls : Array Slot, lv_has ls 3 [(2, .int (nI k)), (0, .ref b), (1, .ref (κ.1 0))] → W p l e (zR (D + 1) 0 0) s m ([.ref b, .ref (κ.1 0)] : List Value).toArray below meth c H locs 0 0 (MQ below (zQm G (yMy κ (yAll go cs σ)) none (zLH G κ (yAll go cs σ) ++ (wW_ G b q (nI as.length) w_what w_num w_sign ++ (zAr G q cap as ++ ks))) A) ([.ref b, .ref (κ.1 0)] : List Value).toArray s 0 0 A) (F0 m 2 ls []) := by
    intro n
    induction n with
    | zero => intro k τ h1 h2; exact absurd h2 (by omega)
    | succ n ih =>
      intro k τ hk hn hst hmt H locs hP hD hS ls hl
      refine lv_iload_n hx hb dX10_all_2 rfl (lv_at hl 0 rfl) ?_
      refine lv_aload_n hx hb dX10_all_3 rfl (lv_at hl 1 rfl) ?_
      refine va_get (D := G.1) (ci := 10) (v := .int (nI as.length)) (C := RX12) (T := TX12) (N := 5) hx hb hts in_X12 hown hK.1 hP 10 rfl rfl 1 (Nat.le_of_ble_eq_true rfl) (hts _ q883) (fun _ h => h) rfl dX10_all_4 ?_
      refine zr_ge k as.length (by omega) (by omega) (tgt := 33) hx hb dX10_all_7 (by decide) (fun h8 => ?_) (fun h8 => ?_)
      · have e_ : yAll go cs σ = τ := hst.symm.trans (by rw [List.drop_eq_nil_of_le (by omega)]; rfl)
        exact zr_mv hx hb hr hlocks hP hD hS dX10_all_33 rfl (by rw [e_]) (by rw [e_]; exact hmt)
      · refine lv_aload_n hx hb dX10_all_10 rfl (lv_at hl 2 rfl) ?_
        refine va_getN (D := G.1) (ci := 12) (v := .int (zb τ.2.2.2.2.2.2.1)) (C := RX14) (T := TX14) (N := 9) hx hb hts in_X14 hown hK.1 hP 0 rfl rfl 7 (Nat.le_of_ble_eq_true rfl) ((hK.2.1.1 _ (List.mem_of_getElem? (i := 42) rfl)).use rfl) (fun _ h => h) rfl dX10_all_11 ?_
        refine zr_neB τ.2.2.2.2.2.2.1 (tgt := 33) hx hb dX10_all_14 (by decide) (fun h9 => ?_) (fun h9 => ?_)
        · have e_ : yAll go cs σ = τ := hst.symm.trans (yAll_over h9)
          exact zr_mv hx hb hr hlocks hP hD hS dX10_all_33 rfl (by rw [e_]) (by rw [e_]; exact hmt)
        · have hlt : k < as.length := by omega
          have hlc : k < cs.length := by omega
          obtain ⟨w1, wr, hpm, ci1, q1, fs1, D1, hD1, hci1, he1, hg1, hM1⟩ := hkid k cs[k] as[k] (List.getElem?_eq_getElem hlc) (List.getElem?_eq_getElem hlt)
          refine lv_aload_n hx hb dX10_all_17 rfl (lv_at hl 1 rfl) ?_
          refine va_get (D := G.1) (ci := 10) (v := .ref q) (C := RX12) (T := TX12) (N := 5) hx hb hts in_X12 hown hK.1 hP 10 rfl rfl 0 (Nat.le_of_ble_eq_true rfl) (hts _ q882) (fun _ h => h) rfl dX10_all_18 ?_
          refine lv_iload_n hx hb dX10_all_21 rfl (lv_at hl 0 rfl) ?_
          refine va_aldq hx hb hK.1 hP 11 6 rfl rfl (z_in (k := k) rfl (by omega) (by omega)) dX10_all_22 ?_
          refine zr_val (v' := .ref as[k]) (by rw [nI_clamp (by omega)]; show va_rf (as[k]?) = _; rw [List.getElem?_eq_getElem hlt]; rfl) ?_
          refine lv_aload_n hx hb dX10_all_23 rfl (lv_at hl 2 rfl) ?_
          refine zr_muPU (F := go cs[k] τ) (ff := fun t => yMy κ t) (rr := fun _ => none) (wr := wW_ G b q (nI as.length) w_what w_num w_sign ++ (zAr G q cap as ++ wr)) (w0 := zLH G κ τ ++ w1) (w1 := fun t => zLH G κ t ++ w1) (wn := fun t => zLH G κ t ++ (wW_ G b q (nI as.length) w_what w_num w_sign ++ (zAr G q cap as ++ ks))) (zpk hpm) (fun t => zpk' hpm) ⟨hx, hb, hml, hown, hts⟩ (hM1 τ hmt H.size) (va_cwU 1 hts hg1 rfl rfl rfl rfl ⟨by decide, by decide, by decide +kernel⟩ ⟨Nat.succ_le_succ hD1, by show 8 + (2 + 11) + 64 * D1 ≤ 64 * (D + 1); omega⟩) hP hD hS hA hK hE 10 ci1 hci1 ((List.getElem?_append_right (by rw [zLH_len]; exact Nat.le_refl _)).trans (by rw [zLH_len]; exact he1)) rfl hl.1 rfl (Nat.le_of_ble_eq_true rfl) dX10_all_24 ⟨Nat.le_refl _, Nat.le_refl _⟩ (fun t ht hft H locs hP hD hS _ => ?_)
          refine lv_iinc (v := nI (k + 1)) (lv' := [(2, .int (nI (k + 1))), (0, .ref b), (1, .ref (κ.1 0))]) hx hb dX10_all_27 hl (k := 0) rfl (nI_add k 1) (by decide) rfl (fun ls hl => ?_)
          refine lv_goto (tgt := 2) hx hb dX10_all_30 (by decide) ?_
          refine ih (k + 1) t (by omega) (by omega) (Eq.trans ?_ hst) hft H locs hP hD hS ls hl
          rw [List.drop_eq_getElem_cons hlc]
          show _ = (if τ.2.2.2.2.2.2.1 = true then τ else yAll go (cs.drop (k + 1)) (go cs[k] τ))
          rw [if_neg h9, ht]
  refine lv_iconst (v := 0) hx hb dX10_all_0 (by decide) ?_
  refine lv_istore_n (lv' := [(2, .int (nI 0)), (0, .ref b), (1, .ref (κ.1 0))]) hx hb dX10_all_1 rfl hl (by decide) rfl (fun ls hl => ?_)
  exact hlp (as.length + 1) 0 σ (Nat.zero_le _) (by omega) rfl hm H locs hP hD hS ls hl
set_option maxHeartbeats 4000000 in
set_option maxRecDepth 100000 in
theorem mt_doesL (l : Launch) (G : zG) (κ : yC) (b q n times : Nat) (ks : va_W) (ga : yS → yS) (D : Nat) (htm : times ≤ 99) (hal : ∀ σ, yMy κ σ → ∀ sz, Met l yX10_all (ws_ yX10_all cX10_all 3 none) (zR D 0 0) (zPm G sz [.ref b, .ref (κ.1 0)] (zLH G κ σ ++ (zLo G b q n times ++ ks))) (zQm G (yMy κ (ga σ)) none (zLH G κ (ga σ) ++ (zLo G b q n times ++ ks)) (va_A (zLH G κ σ ++ (zLo G b q n times ++ ks)) sz)) 0 0 (va_A (zLH G κ σ ++ (zLo G b q n times ++ ks)) sz)) (σ : yS) (hm : yMy κ σ) (sz : Nat) : Met l yX11_does (ws_ yX11_does cX11_does 3 none) (zR (D + 1) 0 0) (zPm G sz [.ref b, .ref (κ.1 0)] (zLH G κ σ ++ (zLo G b q n times ++ ks))) (zQm G (yMy κ (yLoop ga times σ)) none (zLH G κ (yLoop ga times σ) ++ (zLo G b q n times ++ ks)) (va_A (zLH G κ σ ++ (zLo G b q n times ++ ks)) sz)) 0 0 (va_A (zLH G κ σ ++ (zLo G b q n times ++ ks)) sz) := by
  refine zr_entM (by decide) (Nat.le_of_ble_eq_true rfl) ?_
  intro p e s m below meth c ⟨hx, hb, hr, hml, hown, hts, hlocks, hnm⟩ ls hl hP hK A hE hA hD hS
  have hown : s.vm.findClass RX11 = some m.cls := hown
  have hl : lv_has ls 3 [(0, .ref b), (1, .ref (κ.1 0))] := hl
  obtain ⟨H, hH⟩ : ∃ H, H = s.heap := ⟨_, rfl⟩
  obtain ⟨locs, hlo⟩ : ∃ L : List Loc, L = [] := ⟨_, rfl⟩
  rw [← hH] at hP
  have hS : va_S A s.heap H locs := by rw [hH, hlo]; exact va_S.rf
  have hgo : W p l e (zR (D + 1) 0 0) s m ([.ref b, .ref (κ.1 0)] : List Value).toArray below meth c H locs 0 0 (MQ below (zQm G (yMy κ (yLoop ga times σ)) none (zLH G κ (yLoop ga times σ) ++ (zLo G b q n times ++ ks)) A) ([.ref b, .ref (κ.1 0)] : List Value).toArray s 0 0 A) (F0 m 0 ls []) := ?_
  · rw [hH, hlo] at hgo; exact hgo
  clear hH hlo
  have hlp : ∀ (j k : Nat) (τ : yS), k ≤ times → times < k + j → yLoop ga (times - k) τ = yLoop ga times σ → yMy κ τ → ∀ (H : Heap) (locs : List Loc), va_P G.1 zcl (zLH G κ τ ++ (zLo G b q n times ++ ks)) H → va_D A (zLH G κ τ ++ (zLo G b q n times ++ ks)) → va_S A s.heap H locs → ∀ ls : Array Slot, lv_has ls 3 [(2, .int (nI k)), (0, .ref b), (1, .ref (κ.1 0))] → W p l e (zR (D + 1) 0 0) s m ([.ref b, .ref (κ.1 0)] : List Value).toArray below meth c H locs 0 0 (MQ below (zQm G (yMy κ (yLoop ga times σ)) none (zLH G κ (yLoop ga times σ) ++ (zLo G b q n times ++ ks)) A) ([.ref b, .ref (κ.1 0)] : List Value).toArray s 0 0 A) (F0 m 2 ls []) := by
    intro j
    induction j with
    | zero => intro k τ h1 h2; exact absurd h2 (by omega)
    | succ j ih =>
      intro k τ hk hn hst hmt H locs hP hD hS ls hl
      refine lv_iload_n hx hb dX11_does_2 rfl (lv_at hl 0 rfl) ?_
      refine lv_aload_n hx hb dX11_does_3 rfl (lv_at hl 1 rfl) ?_
      refine va_get (D := G.1) (ci := 9) (v := .int (nI times)) (C := RX11) (T := TX11) (N := 3) hx hb hts in_X11 hown hK.1 hP 10 rfl rfl 2 (Nat.le_of_ble_eq_true rfl) (hts _ q881) (fun _ h => h) rfl dX11_does_4 ?_
      refine zr_ge k times (by omega) (by omega) (tgt := 28) hx hb dX11_does_7 (by decide) (fun h8 => ?_) (fun h8 => ?_)
      · have e_ : yLoop ga times σ = τ := hst.symm.trans (by rw [show times - k = 0 by omega]; rfl)
        exact zr_mv hx hb hr hlocks hP hD hS dX11_does_28 rfl (by rw [e_]) (by rw [e_]; exact hmt)
      · refine lv_aload_n hx hb dX11_does_10 rfl (lv_at hl 2 rfl) ?_
        refine va_getN (D := G.1) (ci := 12) (v := .int (zb τ.2.2.2.2.2.2.1)) (C := RX14) (T := TX14) (N := 9) hx hb hts in_X14 hown hK.1 hP 0 rfl rfl 7 (Nat.le_of_ble_eq_true rfl) ((hK.2.1.1 _ (List.mem_of_getElem? (i := 51) rfl)).use rfl) (fun _ h => h) rfl dX11_does_11 ?_
        refine zr_neB τ.2.2.2.2.2.2.1 (tgt := 28) hx hb dX11_does_14 (by decide) (fun h9 => ?_) (fun h9 => ?_)
        · have e_ : yLoop ga times σ = τ := hst.symm.trans (yLoop_over h9)
          exact zr_mv hx hb hr hlocks hP hD hS dX11_does_28 rfl (by rw [e_]) (by rw [e_]; exact hmt)
        · refine lv_aload_n hx hb dX11_does_17 rfl (lv_at hl 1 rfl) ?_
          refine lv_aload_n hx hb dX11_does_18 rfl (lv_at hl 2 rfl) ?_
          refine zr_muPU (F := ga τ) (ff := fun t => yMy κ t) (rr := fun _ => none) (wr := []) (w0 := zLH G κ τ ++ (zLo G b q n times ++ ks)) (w1 := fun t => zLH G κ t ++ (zLo G b q n times ++ ks)) (wn := fun t => zLH G κ t ++ (zLo G b q n times ++ ks)) (List.Perm.refl _) (fun t => List.Perm.refl _) ⟨hx, hb, hml, hown, hts⟩ (hal τ hmt H.size) (va_cwU (x := ⟨"WindowHill$Loop", "all", "(LWindowHill$Living;)V"⟩) 1 hts (lw_U q1418 q1375 q1377 q1378 q158 q1379) rfl rfl rfl rfl ⟨by decide, by decide, by decide +kernel⟩ ⟨Nat.le_refl _, by show 8 + (3 + 11) + 64 * D ≤ 64 * (D + 1); omega⟩) hP hD hS hA hK hE 10 9 rfl rfl rfl hl.1 rfl (Nat.le_of_ble_eq_true rfl) dX11_does_19 ⟨Nat.le_refl _, Nat.le_refl _⟩ (fun t ht hft H locs hP hD hS _ => ?_)
          refine lv_iinc (v := nI (k + 1)) (lv' := [(2, .int (nI (k + 1))), (0, .ref b), (1, .ref (κ.1 0))]) hx hb dX11_does_22 hl (k := 0) rfl (nI_add k 1) (by decide) rfl (fun ls hl => ?_)
          refine lv_goto (tgt := 2) hx hb dX11_does_25 (by decide) ?_
          refine ih (k + 1) t (by omega) (by omega) (Eq.trans ?_ hst) hft H locs hP hD hS ls hl
          rw [show times - k = (times - (k + 1)) + 1 by omega]
          show _ = (if τ.2.2.2.2.2.2.1 = true then τ else yLoop ga (times - (k + 1)) (ga τ))
          rw [if_neg h9, ht]
  refine lv_iconst (v := 0) hx hb dX11_does_0 (by decide) ?_
  refine lv_istore_n (lv' := [(2, .int (nI 0)), (0, .ref b), (1, .ref (κ.1 0))]) hx hb dX11_does_1 rfl hl (by decide) rfl (fun ls hl => ?_)
  exact hlp (times + 1) 0 σ (Nat.zero_le _) (by omega) rfl hm H locs hP hD hS ls hl
set_option maxHeartbeats 4000000 in
set_option maxRecDepth 100000 in
theorem mt_doesW (l : Launch) (G : zG) (κ : yC) (hc : yOKc κ) (b q : Nat) (n w_what w_num w_sign : Int32) (ks : va_W) (ga : yS → yS) (D : Nat) (hD1 : 1 ≤ D) (hal : ∀ σ, yMy κ σ → ∀ sz, Met l yX10_all (ws_ yX10_all cX10_all 3 none) (zR D 0 0) (zPm G sz [.ref b, .ref (κ.1 0)] (zLH G κ σ ++ (wW_ G b q n w_what w_num w_sign ++ ks))) (zQm G (yMy κ (ga σ)) none (zLH G κ (ga σ) ++ (wW_ G b q n w_what w_num w_sign ++ ks)) (va_A (zLH G κ σ ++ (wW_ G b q n w_what w_num w_sign ++ ks)) sz)) 0 0 (va_A (zLH G κ σ ++ (wW_ G b q n w_what w_num w_sign ++ ks)) sz)) (σ : yS) (hm : yMy κ σ) (sz : Nat) : Met l yX12_does (ws_ yX12_does cX12_does 2 none) (zR (D + 5) 0 0) (zPm G sz [.ref b, .ref (κ.1 0)] (zLH G κ σ ++ (wW_ G b q n w_what w_num w_sign ++ ks))) (zQm G (yMy κ (if yIs κ.2 w_what w_num w_sign σ = true then ga σ else σ)) none (zLH G κ (if yIs κ.2 w_what w_num w_sign σ = true then ga σ else σ) ++ (wW_ G b q n w_what w_num w_sign ++ ks)) (va_A (zLH G κ σ ++ (wW_ G b q n w_what w_num w_sign ++ ks)) sz)) 0 0 (va_A (zLH G κ σ ++ (wW_ G b q n w_what w_num w_sign ++ ks)) sz) := by
  refine zr_entM (by decide) (Nat.le_of_ble_eq_true rfl) ?_
  intro p e s m below meth c ⟨hx, hb, hr, hml, hown, hts, hlocks, hnm⟩ ls hl hP hK A hE hA hD hS
  have hown : s.vm.findClass RX12 = some m.cls := hown
  have hl : lv_has ls 2 [(0, .ref b), (1, .ref (κ.1 0))] := hl
  obtain ⟨H, hH⟩ : ∃ H, H = s.heap := ⟨_, rfl⟩
  obtain ⟨locs, hlo⟩ : ∃ L : List Loc, L = [] := ⟨_, rfl⟩
  rw [← hH] at hP
  have hS : va_S A s.heap H locs := by rw [hH, hlo]; exact va_S.rf
  have hgo : W p l e (zR (D + 5) 0 0) s m ([.ref b, .ref (κ.1 0)] : List Value).toArray below meth c H locs 0 0 (MQ below (zQm G (yMy κ (if yIs κ.2 w_what w_num w_sign σ = true then ga σ else σ)) none (zLH G κ (if yIs κ.2 w_what w_num w_sign σ = true then ga σ else σ) ++ (wW_ G b q n w_what w_num w_sign ++ ks)) A) ([.ref b, .ref (κ.1 0)] : List Value).toArray s 0 0 A) (F0 m 0 ls []) := ?_
  · rw [hH, hlo] at hgo; exact hgo
  clear hH hlo
  refine lv_aload_n hx hb dX12_does_0 rfl (lv_at hl 0 rfl) ?_
  refine lv_aload_n hx hb dX12_does_1 rfl (lv_at hl 1 rfl) ?_
  refine va_getN (D := G.1) (ci := 12) (v := .ref (κ.1 1)) (C := RX14) (T := TX14) (N := 9) hx hb hts in_X14 hown hK.1 hP 0 rfl rfl 0 (Nat.le_of_ble_eq_true rfl) ((hK.2.1.1 _ (List.mem_of_getElem? (i := 72) rfl)).use rfl) (fun _ h => h) rfl dX12_does_2 ?_
  refine zr_obV (w0 := wW_ G b q n w_what w_num w_sign ++ hW G (κ.1 1) (κ.1 2) (κ.1 3) (κ.1 4) (κ.1 5) σ.2.2.2.2.2.2.2.2.1 σ.2.2.2.2.2.2.2.2.2.1 σ.2.2.2.2.2.2.2.2.2.2.1 σ.2.2.2.2.2.2.2.2.2.2.2.1 κ.2.2.2.2.2.2.2.2.2.1 κ.2.2.2.2.2.2.2.2.2.2.1 σ.2.2.2.2.2.2.2.2.2.2.2.2 ++ tW G (κ.1 2) (κ.1 6) (κ.1 7) (κ.1 8) (κ.1 9) (κ.1 10) (κ.1 11) (κ.1 12) (nI κ.2.1) (nI κ.2.2.1) κ.2.2.2.2.2.1 κ.2.2.2.2.2.2.1 κ.2.2.2.2.2.2.2.1 (nI κ.2.2.2.1) (nI κ.2.2.2.2.1) κ.2.2.2.2.2.2.2.2.1 κ.2.2.2.2.2.2.2.2.2.2.2.1 κ.2.2.2.2.2.2.2.2.2.2.2.2.1 κ.2.2.2.2.2.2.2.2.2.2.2.2.2.1 κ.2.2.2.2.2.2.2.2.2.2.2.2.2.2) ⟨hx, hb, hml, hown, hts⟩ (mt_yf_is l G b q n w_what w_num w_sign (κ.1 1) (κ.1 2) (κ.1 3) (κ.1 4) (κ.1 5) σ.2.2.2.2.2.2.2.2.1 σ.2.2.2.2.2.2.2.2.2.1 σ.2.2.2.2.2.2.2.2.2.2.1 σ.2.2.2.2.2.2.2.2.2.2.2.1 κ.2.2.2.2.2.2.2.2.2.1 κ.2.2.2.2.2.2.2.2.2.2.1 σ.2.2.2.2.2.2.2.2.2.2.2.2 (κ.1 6) (κ.1 7) (κ.1 8) (κ.1 9) (κ.1 10) (κ.1 11) (κ.1 12) κ.2.1 κ.2.2.1 κ.2.2.2.2.2.1 κ.2.2.2.2.2.2.1 κ.2.2.2.2.2.2.2.1 κ.2.2.2.1 κ.2.2.2.2.1 κ.2.2.2.2.2.2.2.2.1 κ.2.2.2.2.2.2.2.2.2.2.2.1 κ.2.2.2.2.2.2.2.2.2.2.2.2.1 κ.2.2.2.2.2.2.2.2.2.2.2.2.2.1 κ.2.2.2.2.2.2.2.2.2.2.2.2.2.2 hc.1 hm hc.2) (cwV 1 hts (lw_V q1422 q1424 qs58 q160 q1425) rfl rfl rfl hd_X12_is ⟨by show 5 + 1 ≤ D + 5; omega, by show 8 + (3 + 11) + 64 * 5 ≤ 64 * (D + 5); omega⟩) (zP_sub hP [10, 1, 2, 3, 4, 5, 6, 7, 8, 9] rfl) hK (zE_o hE hS) 0 10 rfl rfl rfl hl.1 rfl (Nat.le_of_ble_eq_true rfl) dX12_does_5 ⟨Nat.le_refl _, Nat.le_refl _⟩ ?_
  refine zr_eqB (yIs κ.2 w_what w_num w_sign σ) (tgt := 16) hx hb dX12_does_8 (by decide) (fun h9 => ?_) (fun h9 => ?_)
  · have e_ : (if yIs κ.2 w_what w_num w_sign σ = true then ga σ else σ) = σ := if_neg h9
    exact zr_mv hx hb hr hlocks hP hD hS dX12_does_16 rfl (by rw [e_]) (by rw [e_]; exact hm)
  · refine lv_aload_n hx hb dX12_does_11 rfl (lv_at hl 0 rfl) ?_
    refine lv_aload_n hx hb dX12_does_12 rfl (lv_at hl 1 rfl) ?_
    refine zr_muPU (F := ga σ) (ff := fun t => yMy κ t) (rr := fun _ => none) (wr := []) (w0 := zLH G κ σ ++ (wW_ G b q n w_what w_num w_sign ++ ks)) (w1 := fun t => zLH G κ t ++ (wW_ G b q n w_what w_num w_sign ++ ks)) (wn := fun t => zLH G κ t ++ (wW_ G b q n w_what w_num w_sign ++ ks)) (List.Perm.refl _) (fun t => List.Perm.refl _) ⟨hx, hb, hml, hown, hts⟩ (hal σ hm H.size) (va_cwU (x := ⟨"WindowHill$When", "all", "(LWindowHill$Living;)V"⟩) 1 hts (lw_U q1428 q1429 q1430 q1378 q158 q1379) rfl rfl rfl rfl ⟨by decide, by decide, by decide +kernel⟩ ⟨by show D + 1 ≤ D + 5; omega, by show 8 + (3 + 11) + 64 * D ≤ 64 * (D + 5); omega⟩) hP hD hS hA hK hE 10 10 rfl rfl rfl hl.1 rfl (Nat.le_of_ble_eq_true rfl) dX12_does_13 ⟨Nat.le_refl _, Nat.le_refl _⟩ (fun t ht hft H locs hP hD hS _ => ?_)
    have e_ : (if yIs κ.2 w_what w_num w_sign σ = true then ga σ else σ) = t := (if_pos h9).trans ht
    exact zr_mv hx hb hr hlocks hP hD hS dX12_does_16 rfl (by rw [e_]) (by rw [e_]; exact hft)
set_option maxHeartbeats 4000000 in
set_option maxRecDepth 100000 in
theorem zGo_act (l : Launch) (G : zG) (κ : yC) (hc : yOKc κ) (t : Int32 × Nat) (ht : yWfA κ.2.2.2.1 t) (a : Nat) : zGoOK l G κ 9 (yGo (yAct κ.2 t.1 t.2)) a (aW_ G a t.1 (nI t.2)) :=
  ⟨11, _, _, 9, Nat.le_refl _, rfl, rfl, (lw_U q1380 q1382 q1383 q1381 q157 q1386), fun σ hm sz => mt_go (ci := 11) l G κ a (aW_ G a t.1 (nI t.2)) (fun σ => aW_ G a t.1 (nI t.2) ++ lW_ G (κ.1 0) (κ.1 1) σ.1 σ.2.1 σ.2.2.1 σ.2.2.2.1 σ.2.2.2.2.1 σ.2.2.2.2.2.1 σ.2.2.2.2.2.2.1 σ.2.2.2.2.2.2.2.1 ++ hW G (κ.1 1) (κ.1 2) (κ.1 3) (κ.1 4) (κ.1 5) σ.2.2.2.2.2.2.2.2.1 σ.2.2.2.2.2.2.2.2.2.1 σ.2.2.2.2.2.2.2.2.2.2.1 σ.2.2.2.2.2.2.2.2.2.2.2.1 κ.2.2.2.2.2.2.2.2.2.1 κ.2.2.2.2.2.2.2.2.2.2.1 σ.2.2.2.2.2.2.2.2.2.2.2.2 ++ tW G (κ.1 2) (κ.1 6) (κ.1 7) (κ.1 8) (κ.1 9) (κ.1 10) (κ.1 11) (κ.1 12) (nI κ.2.1) (nI κ.2.2.1) κ.2.2.2.2.2.1 κ.2.2.2.2.2.2.1 κ.2.2.2.2.2.2.2.1 (nI κ.2.2.2.1) (nI κ.2.2.2.2.1) κ.2.2.2.2.2.2.2.2.1 κ.2.2.2.2.2.2.2.2.2.2.2.1 κ.2.2.2.2.2.2.2.2.2.2.2.2.1 κ.2.2.2.2.2.2.2.2.2.2.2.2.2.1 κ.2.2.2.2.2.2.2.2.2.2.2.2.2.2) (yAct κ.2 t.1 t.2) 8 0 rfl (fun _ => rfl) (fun σ => perm_pos 11 [10, 0, 1, 2, 3, 4, 5, 6, 7, 8, 9] rfl (by decide) rfl) (lw_U q1387 q1389 q1390 q1391 q161 q1392) (by decide) (fun σ hm sz => by
    have h := mt_yf_actdoes l G a t.1 t.2 (κ.1 0) (κ.1 1) σ.1 σ.2.1 σ.2.2.1 σ.2.2.2.1 σ.2.2.2.2.1 σ.2.2.2.2.2.1 σ.2.2.2.2.2.2.1 σ.2.2.2.2.2.2.2.1 (κ.1 2) (κ.1 3) (κ.1 4) (κ.1 5) σ.2.2.2.2.2.2.2.2.1 σ.2.2.2.2.2.2.2.2.2.1 σ.2.2.2.2.2.2.2.2.2.2.1 σ.2.2.2.2.2.2.2.2.2.2.2.1 κ.2.2.2.2.2.2.2.2.2.1 κ.2.2.2.2.2.2.2.2.2.2.1 σ.2.2.2.2.2.2.2.2.2.2.2.2 (κ.1 6) (κ.1 7) (κ.1 8) (κ.1 9) (κ.1 10) (κ.1 11) (κ.1 12) κ.2.1 κ.2.2.1 κ.2.2.2.2.2.1 κ.2.2.2.2.2.2.1 κ.2.2.2.2.2.2.2.1 κ.2.2.2.1 κ.2.2.2.2.1 κ.2.2.2.2.2.2.2.2.1 κ.2.2.2.2.2.2.2.2.2.2.2.1 κ.2.2.2.2.2.2.2.2.2.2.2.2.1 κ.2.2.2.2.2.2.2.2.2.2.2.2.2.1 κ.2.2.2.2.2.2.2.2.2.2.2.2.2.2 hc.1 hm hc.2 ht.1 ht.2 sz
    exact h) σ hm sz⟩
set_option maxHeartbeats 4000000 in
set_option maxRecDepth 100000 in
theorem zGo_tree (l : Launch) (G : zG) (κ : yC) (hc : yOKc κ) : ∀ (n : Nat) (t : yT n) (a : Nat) (ws : va_W), zTr G n t a ws → yWf κ.2.2.2.1 n t → zGoOK l G κ (10 * n + 9) (yGo (yDoes κ.2 n t)) a ws := by
  intro n
  induction n with
  | zero =>
    intro t a ws h hw
    have h : ws = aW_ G a t.1 (nI t.2) := h
    subst h
    exact zGo_act l G κ hc t hw a
  | succ n ih =>
    intro t a ws h hw
    cases t with
    | inl t =>
      have h : ws = aW_ G a t.1 (nI t.2) := h
      subst h
      obtain ⟨ci, q, fs, D', hD, g1, g2, g3, g4⟩ := zGo_act l G κ hc t hw a
      exact ⟨ci, q, fs, D', by omega, g1, g2, g3, g4⟩
    | inr b =>
      cases b with
      | inl b =>
        obtain ⟨q, cap, as, ks, h1, h2, hch, rfl⟩ := h
        have hw : b.1 ≤ 99 ∧ ∀ x ∈ b.2, yWf κ.2.2.2.1 n x := hw
        have hkid : ∀ (i : Nat) (t : yT n) (a : Nat), b.2[i]? = some t → as[i]? = some a → ∃ w1 wr : va_W, ks.Perm (wr ++ w1) ∧ zGoOK l G κ (10 * n + 9) (yGo (yDoes κ.2 n t)) a w1 := fun i t a hi ha => by
          obtain ⟨w1, wr, hp, ht⟩ := zCh_get hch i t a hi ha
          exact ⟨w1, wr, hp, ih t a w1 ht (hw.2 t (List.mem_of_getElem? hi))⟩
        refine ⟨9, _, _, 10 * n + 12, by omega, rfl, rfl, (lw_U q1380 q1382 q1384 q1381 q157 q1386), fun σ hm sz => mt_go (ci := 9) l G κ a _ (fun σ => zLH G κ σ ++ (zLo G a q as.length b.1 ++ (zAr G q cap as ++ ks))) (yLoop (yAll (fun t => yGo (yDoes κ.2 n t)) b.2) b.1) (10 * n + 11) 10 rfl (fun _ => rfl) (fun σ => List.Perm.refl _) (lw_U q1387 q1389 q1415 q1416 q159 q1417) (by decide) (fun σ hm sz => ?_) σ hm sz⟩
        exact mt_doesL l G κ a q as.length b.1 (zAr G q cap as ++ ks) (yAll (fun t => yGo (yDoes κ.2 n t)) b.2) (10 * n + 10) hw.1 (fun σ hm sz => mt_allL l G κ a q cap b.1 as ks b.2 (fun t => yGo (yDoes κ.2 n t)) (10 * n + 9) h1 h2 (zCh_len hch) hkid σ hm sz) σ hm sz
      | inr b =>
        obtain ⟨q, cap, as, ks, h1, h2, hch, rfl⟩ := h
        have hw : ∀ x ∈ b.2, yWf κ.2.2.2.1 n x := hw
        have hkid : ∀ (i : Nat) (t : yT n) (a : Nat), b.2[i]? = some t → as[i]? = some a → ∃ w1 wr : va_W, ks.Perm (wr ++ w1) ∧ zGoOK l G κ (10 * n + 9) (yGo (yDoes κ.2 n t)) a w1 := fun i t a hi ha => by
          obtain ⟨w1, wr, hp, ht⟩ := zCh_get hch i t a hi ha
          exact ⟨w1, wr, hp, ih t a w1 ht (hw t (List.mem_of_getElem? hi))⟩
        refine ⟨10, _, _, 10 * n + 16, by omega, rfl, rfl, (lw_U q1380 q1382 q1385 q1381 q157 q1386), fun σ hm sz => mt_go (ci := 10) l G κ a _ (fun σ => zLH G κ σ ++ (wW_ G a q (nI as.length) b.1.1 b.1.2.1 b.1.2.2 ++ (zAr G q cap as ++ ks))) (fun σ => if yIs κ.2 b.1.1 b.1.2.1 b.1.2.2 σ = true then yAll (fun t => yGo (yDoes κ.2 n t)) b.2 σ else σ) (10 * n + 15) 10 rfl (fun _ => rfl) (fun σ => List.Perm.refl _) (lw_U q1387 q1389 q1419 q1420 q160 q1421) (by decide) (fun σ hm sz => ?_) σ hm sz⟩
        exact mt_doesW l G κ hc a q (nI as.length) b.1.1 b.1.2.1 b.1.2.2 (zAr G q cap as ++ ks) (yAll (fun t => yGo (yDoes κ.2 n t)) b.2) (10 * n + 10) (by omega) (fun σ hm sz => mt_allW l G κ a q cap b.1.1 b.1.2.1 b.1.2.2 as ks b.2 (fun t => yGo (yDoes κ.2 n t)) (10 * n + 9) h1 h2 (zCh_len hch) hkid σ hm sz) σ hm sz
