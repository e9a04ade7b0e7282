/-! y2: years read -/
abbrev yK : Type := (Nat → Nat) × (Nat → Int32) × (Nat → Int64) × (Nat → Value) × Bool × Bool × (Nat → Nat → Int32) × (Nat → Nat → Int64)
abbrev yR : Type := Nat × Nat × Int32 × Int32 × Nat × Int32 × Int32
def zRT (G : zG) (χ : yK) (ρ : yR) : va_W := ((rW_ G (χ.1 10) (nI (χ.1 0)) (nI ρ.1) (nI ρ.2.1) ρ.2.2.1 ρ.2.2.2.1 (nI ρ.2.2.2.2.1) (χ.2.1 0) (χ.1 11) (χ.1 12) (χ.1 13) (χ.2.1 1) (χ.2.1 2) (χ.2.1 3) (χ.1 14) (χ.1 15) (χ.2.1 4) (χ.2.2.1 0) (χ.2.2.1 1) (χ.1 16) (χ.1 17) (χ.2.1 5) (χ.1 18) (χ.2.1 6) (χ.2.1 7) (χ.1 19) (χ.2.1 8) (χ.2.1 9) (χ.2.1 10) (χ.1 20) (χ.1 21) χ.2.2.2.2.1 (χ.2.2.2.2.2.2.1 0) (χ.2.2.2.1 0) (χ.2.2.2.1 1) (χ.2.2.2.1 2) (χ.2.2.2.1 3) (χ.2.2.2.1 4) (χ.2.2.2.1 5) ρ.2.2.2.2.2.1 ρ.2.2.2.2.2.2) ++ (tW G (χ.1 22) (χ.1 23) (χ.1 24) (χ.1 25) (χ.1 26) (χ.1 27) (χ.1 28) (χ.1 29) (nI (χ.1 1)) (nI (χ.1 2)) (χ.2.1 11) (χ.2.1 12) (χ.2.1 13) (nI (χ.1 3)) (nI (χ.1 4)) χ.2.2.2.2.2.1 (χ.2.2.2.2.2.2.1 1) (χ.2.2.2.2.2.2.1 2) (χ.2.2.2.2.2.2.1 3) (χ.2.2.2.2.2.2.2 0)) ++ (tX_ G (χ.1 27) (χ.1 28) (χ.1 29) (χ.2.2.2.2.2.2.2 1) (χ.2.2.2.2.2.2.1 4) (χ.2.2.2.2.2.2.1 5)))
def yOKx (χ : yK) : Prop := (χ.1 0) ≤ 900 ∧ (χ.1 3) ≤ 4 ∧ (χ.1 4) ≤ 6 ∧ 1 ≤ (χ.1 1) ∧ (χ.1 1) ≤ 5 ∧ 1 ≤ (χ.1 2) ∧ (χ.1 2) ≤ 6
def yOKr (χ : yK) (ρ : yR) : Prop := ρ.1 ≤ ρ.2.1 ∧ ρ.2.1 ≤ (χ.1 0) ∧ (ρ.2.2.1 = 0 ∨ ρ.1 < ρ.2.1)
def zoc {α β : Type} (x : Option α) (a : β) (f : α → β) : β := match x with
  | none => a
  | some t => f t
theorem zoc_n {α β : Type} {x : Option α} {a : β} {f : α → β} (h : x = none) : zoc x a f = a := by rw [h]; rfl
theorem zoc_s {α β : Type} {x : Option α} {a : β} {f : α → β} {t : α} (h : x = some t) : zoc x a f = f t := by rw [h]; rfl
def yPl (χ : yK) (ρ : yR) : yR × Option (Int32 × Nat) := zlet (rf_plain (χ.1 0) ρ.1 ρ.2.1 ρ.2.2.1 ρ.2.2.2.1 (χ.2.2.2.2.2.2.1 0) ρ.2.2.2.2.2.1 ρ.2.2.2.2.2.2 (χ.1 1) (χ.1 2) (χ.1 3) (χ.2.2.2.2.2.2.2 0)) (fun t => ((t.2.1, t.2.2.1, t.2.2.2.1, t.2.2.2.2.1, ρ.2.2.2.2.1, t.2.2.2.2.2.1, t.2.2.2.2.2.2.1), if t.1 = true then some (t.2.2.2.2.2.2.2.1, (t.2.2.2.2.2.2.2.2).toNatClampNeg) else none))
def yTe (χ : yK) (ρ : yR) : Int32 := rf_tests ρ.1 ρ.2.1 ρ.2.2.1 (χ.2.2.2.2.2.2.1 0)
def yWh (χ : yK) (ρ : yR) : yR × Option (Int32 × Int32 × Int32) := zlet (rf_when (χ.1 0) ρ.1 ρ.2.1 ρ.2.2.1 ρ.2.2.2.1 (χ.2.2.2.2.2.2.1 0) ρ.2.2.2.2.2.1 ρ.2.2.2.2.2.2 (χ.1 1) (χ.1 2)) (fun t => ((t.2.1, t.2.2.1, t.2.2.2.1, t.2.2.2.2.1, ρ.2.2.2.2.1, t.2.2.2.2.2.1, t.2.2.2.2.2.2.1), if t.1 = true then some (yTe χ ρ, t.2.2.2.2.2.2.2.1, t.2.2.2.2.2.2.2.2) else none))
def yNx (χ : yK) (ρ : yR) : yR := zlet (rf_next (χ.1 0) ρ.2.1 ρ.2.2.2.1 (χ.2.2.2.2.2.2.1 0)) (fun t => (t.1, t.2.1, t.2.2.1, t.2.2.2, ρ.2.2.2.2.1, ρ.2.2.2.2.2.1, ρ.2.2.2.2.2.2))
def yCl (χ : yK) (ρ : yR) : Bool × yR := zlet (rf_close (χ.1 0) ρ.1 ρ.2.1 ρ.2.2.1 ρ.2.2.2.1 (χ.2.2.2.2.2.2.1 0) ρ.2.2.2.2.2.1 ρ.2.2.2.2.2.2) (fun t => (t.1, (t.2.1, t.2.2.1, t.2.2.2.1, t.2.2.2.2.1, ρ.2.2.2.2.1, t.2.2.2.2.2.1, t.2.2.2.2.2.2)))
def yNu (χ : yK) (ρ : yR) (lo hi : Int32) : yR × Option Nat := zlet (rf_number (χ.1 0) ρ.1 ρ.2.1 ρ.2.2.1 ρ.2.2.2.1 (χ.2.2.2.2.2.2.1 0) ρ.2.2.2.2.2.1 ρ.2.2.2.2.2.2 lo hi) (fun t => ((t.2.2.1, t.2.2.2.1, t.2.2.2.2.1, t.2.2.2.2.2.1, ρ.2.2.2.2.1, t.2.2.2.2.2.2.1, t.2.2.2.2.2.2.2), if t.1 = true then some (t.2.1.toNatClampNeg) else none))
def yWd (χ : yK) (ρ : yR) (wi : Nat) : Bool := rf_isWord ρ.1 ρ.2.1 ρ.2.2.1 (χ.2.2.2.2.2.2.1 0) wi
def yAc (χ : yK) (ρ : yR) : Int32 := rf_acts ρ.1 ρ.2.1 ρ.2.2.1 (χ.2.2.2.2.2.2.1 0)
def yWr (ρ : yR) : yR := zlet (rf_wrong ρ.1 ρ.2.2.1) (fun t => (ρ.1, ρ.2.1, ρ.2.2.1, ρ.2.2.2.1, ρ.2.2.2.2.1, t.1, t.2))
def yBa (ρ : yR) (wh : Int32) : yR := zlet (bf_at wh (nI ρ.1)) (fun t => (ρ.1, ρ.2.1, ρ.2.2.1, ρ.2.2.2.1, ρ.2.2.2.2.1, t.1, t.2))
abbrev yHb : Type := Nat ⊕ (Int32 × Int32 × Int32)
def yKi {α : Type} (isE : yR → Bool) (stp : yR → yR × Option α) : Nat → yR → List α → yR × Option (List α)
  | 0, ρ, _ => (ρ, none)
  | f + 1, ρ, cs => if isE ρ = true then (ρ, some cs) else zlet (stp ρ) (fun r => zoc r.2 (r.1, none) (fun t => yKi isE stp f r.1 (cs ++ [t])))
def yHd (χ : yK) (w : Bool) (ρ : yR) : yR × Option yHb :=
  if w = true then zlet (yWh χ ρ) (fun r => (r.1, r.2.map Sum.inr)) else zlet (yNu χ ρ 1 99) (fun r => (r.1, r.2.map Sum.inl))
def yBl {α : Type} (χ : yK) (stp : yR → yR × Option α) (w : Bool) (ρ : yR) : yR × Option (yHb × List α) :=
  zlet (yHd χ w (yNx χ ρ)) (fun r => zoc r.2 (r.1, none) (fun h => zlet (yCl χ r.1) (fun c => if c.1 = true then zlet (yKi (fun ρ => yWd χ ρ 21) stp ((χ.1 0) - c.2.1 + 1) c.2 []) (fun k => zoc k.2 (k.1, none) (fun cs => (yNx χ k.1, some (h, cs)))) else (c.2, none))))
def yS1 (ρ : yR) : yR := (ρ.1, ρ.2.1, ρ.2.2.1, ρ.2.2.2.1, ρ.2.2.2.2.1 + 1, ρ.2.2.2.2.2.1, ρ.2.2.2.2.2.2)
def yIb (χ : yK) (ρ : yR) : Bool := if yWd χ ρ 19 = true then true else yWd χ ρ 20
def yBod {β : Type} (χ : yK) (mkA : Int32 × Nat → β) (blk : Bool → yR → yR × Option β) (ρ : yR) : yR × Option β :=
  if yIb χ ρ = true then blk (yWd χ ρ 19) (yS1 ρ) else zlet (yPl χ (yS1 ρ)) (fun r => (r.1, r.2.map mkA))
def yStp {β : Type} (χ : yK) (mkA : Int32 × Nat → β) (blk : Bool → yR → yR × Option β) (deep : Bool) (ρ : yR) : yR × Option β :=
  if ¬ 0 ≤ yAc χ ρ ∧ ¬ yIb χ ρ = true then (yWr ρ, none)
  else if ρ.2.2.2.2.1 = 30 then (yBa ρ 6, none)
  else if yIb χ ρ = true ∧ deep = true then (yBa ρ 7, none)
  else zlet (yBod χ mkA blk ρ) (fun r => zoc r.2 (r.1, none) (fun t => zlet (yCl χ r.1) (fun c => (c.2, if c.1 = true then some t else none))))
def yTb {α : Type} (x : yHb × List α) : yTs α := match x.1 with
  | .inl n => .inr (.inl (n, x.2))
  | .inr w => .inr (.inr (w, x.2))
def yBt {α : Type} (r : yR × Option (yHb × List α)) : yR × Option (yTs α) := (r.1, r.2.map yTb)
def yStep (χ : yK) : (n : Nat) → yR → yR × Option (yT n)
  | 0 => yStp (β := yT 0) χ (fun t => t) (fun _ ρ => (ρ, none)) true
  | n + 1 => yStp (β := yT (n + 1)) χ (fun t => .inl t) (fun w ρ => yBt (yBl χ (yStep χ n) w ρ)) false
/-- a block's head -/
def zBk (G : zG) (b q n : Nat) : yHb → va_W
  | .inl times => zLo G b q n times
  | .inr w => wW_ G b q (nI n) w.1 w.2.1 w.2.2
theorem zr_entE {S : Type} {l : Launch} {G : zG} {sz : Nat} {av : List Value} {ws : va_W} {wsu : S → va_W} {F : S → Prop} {r : S → Option Value} {y : MethodName} {cc : ByteArray} {maxL mc ms : Nat} {ret : Option FieldType} {rm : Room} (hy : plainName y.cls = true) (hlen : (lg_sl av).length ≤ maxL)
    (body : ∀ (p : Program) (e : Env) (s : State) (m : MethodId) (below : List Frame) (meth : Method) (c : Code), zC p s m meth c cc maxL ret y av.toArray → ∀ ls : Array Slot, lv_has ls maxL (lv_args 0 av) → va_P G.1 zcl ws s.heap → KK G s → ∀ A : Nat → Prop, ZE G A s s.heap → (∀ q : Nat, s.heap.size ≤ q → A q) → va_D A ws → va_S A s.heap s.heap [] → W p l e rm s m av.toArray below meth c s.heap [] 0 0 (MQ below (zQe G F r wsu A) av.toArray s mc ms A) (F0 m 0 ls [])) :
    Met l y (ws_ y cc maxL ret) rm (zPm G sz av ws) (zQe G F r wsu (va_A ws sz)) mc ms (va_A ws sz) := by
  refine Met.ofW (cc := cc) (maxL := maxL) (ret := ret) hy rfl ?_
  intro p e s m args below meth c s₁ B hml hv
  obtain ⟨rfl, hsz, hP, hK, hD, hE⟩ := hv
  have hts := atoms_spec (ws := ws_ y cc maxL ret) B.pre
  have hl := lv_entry av (n := maxL) hlen
  rw [lg_entry_eq]
  subst hsz
  exact body p e s m below meth c ⟨B.exec, B.bytes, B.returns, hml, findClass_of_methodNamed B.named, fun w h => hts w (List.mem_cons_of_mem _ h), B.notSynchronized, (name_of_methodNamed B.named B.method).1⟩ _ hl hP hK _ hE (fun q h => Or.inr h) (hD.self (sz := s.heap.size)) va_S.rf
theorem zP_subl {D : va_G} {cl : List vw_C} {a b : va_W} {H : Heap} (hs : List.Sublist a b) (h : va_P D cl b H) : va_P D cl a H := zP_mem.mpr fun q hq => zP_mem.mp h q (hs.subset hq)
theorem zD_subl {A : Nat → Prop} {a b : va_W} (hs : List.Sublist a b) (h : va_D A b) : va_D A a := by
  have h' := zD_iff.mp h
  exact zD_iff.mpr ⟨h'.1.sublist (hs.map Prod.fst), fun q hq => h'.2 q (hs.subset hq)⟩
theorem zpn {B R N : va_W} : ((B ++ R) ++ N).Perm (B ++ (N ++ R)) := by
  rw [List.append_assoc]
  exact List.Perm.append_left B List.perm_append_comm
theorem zsd {B N O R : va_W} : List.Sublist (B ++ (N ++ R)) (B ++ (N ++ (O ++ R))) := ((List.sublist_append_right O R).append_left N).append_left B
theorem zAr_up (as : List Nat) (a : Nat) : va_up (fun i => as[i]?) as.length (some a) = fun i => (as ++ [a])[i]? := by
  funext i
  unfold va_up
  by_cases h : i = as.length
  · subst h; rw [if_pos rfl, List.getElem?_append_right (Nat.le_refl _), Nat.sub_self]; rfl
  · rw [if_neg h]
    by_cases h2 : i < as.length
    · rw [List.getElem?_append_left h2]
    · have e1 : as[i]? = none := List.getElem?_eq_none (Nat.not_lt.mp h2)
      have e2 : (as ++ [a])[i]? = none := List.getElem?_eq_none (by rw [List.length_append, List.length_singleton]; omega)
      exact e1.trans e2.symm
theorem zAr_cpy (as : List Nat) : va_cpy (fun i => as[i]?) (fun _ => none) 0 0 as.length = fun i => as[i]? := by
  funext i
  unfold va_cpy
  by_cases h : i < as.length
  · rw [if_pos ⟨Nat.zero_le _, by omega⟩, Nat.zero_add, Nat.sub_zero]
  · rw [if_neg (by omega), List.getElem?_eq_none (by omega)]
/-- children are steps -/
def zKc (ks : va_W) (as : List Nat) : Prop := ∀ (i x : Nat), as[i]? = some x → ∃ (ci : Nat) (fs : List Value) (r : vw_C), (x, .inr (ci, fs)) ∈ ks ∧ zcl[ci]? = some r ∧ (r.1, "WindowHill$Step") ∈ zCA
set_option maxHeartbeats 4000000 in
set_option maxRecDepth 100000 in
theorem mt_addL (l : Launch) (G : zG) (b q cap a : Nat) (times : Nat) (as : List Nat) (ks w : va_W) (ci : Nat) (r : vw_C) (fs : List Value) (hcap : as.length ≤ cap) (hc1 : 1 ≤ cap) (hc64 : cap ≤ 64) (h30 : as.length ≤ 30) (hkid : zKc ks as) (hw : (a, .inr (ci, fs)) ∈ w) (hci : zcl[ci]? = some r) (hca : (r.1, "WindowHill$Step") ∈ zCA) (sz : Nat) : Met l yX10_add (ws_ yX10_add cX10_add 3 none) (zR 2 1 64) (zPm G sz [.ref b, .ref a] (zLo G b q as.length times ++ (zAr G q cap as ++ (ks ++ w)))) (zQe G (fun u : Nat × Nat => as.length + 1 ≤ u.2 ∧ u.2 ≤ 64) (fun _ => none) (fun u => zLo G b u.1 (as.length + 1) times ++ (zAr G u.1 u.2 (as ++ [a]) ++ (ks ++ w))) (va_A (zLo G b q as.length times ++ (zAr G q cap as ++ (ks ++ w))) sz)) 1 64 (va_A (zLo G b q as.length times ++ (zAr G q cap as ++ (ks ++ w))) sz) := by
  refine zr_entE (by decide) (Nat.le_of_ble_eq_true rfl) ?_
  intro p e s m below meth c ⟨hx, hb, hr, hml, hown, hts, hlocks, hnm⟩ ls hl hP hK A hE hA hD hS
  have hown : s.vm.findClass RX10 = some m.cls := hown
  have hl : lv_has ls 3 [(0, .ref b), (1, .ref a)] := hl
  obtain ⟨H, hH⟩ : ∃ H, H = s.heap := ⟨_, rfl⟩
  obtain ⟨locs, hlo⟩ : ∃ L : List Loc, L = [] := ⟨_, rfl⟩
  rw [← hH] at hP
  have hS : va_S A s.heap H locs := by rw [hH, hlo]; exact va_S.rf
  have hgo : W p l e (zR 2 1 64) s m ([.ref b, .ref a] : List Value).toArray below meth c H locs 0 0 (MQ below (zQe G (fun u : Nat × Nat => as.length + 1 ≤ u.2 ∧ u.2 ≤ 64) (fun _ => none) (fun u => zLo G b u.1 (as.length + 1) times ++ (zAr G u.1 u.2 (as ++ [a]) ++ (ks ++ w))) A) ([.ref b, .ref a] : List Value).toArray s 1 64 A) (F0 m 0 ls []) := ?_
  · rw [hH, hlo] at hgo; exact hgo
  clear hH hlo
  have hJ : ∀ (q' cap' : Nat), as.length < cap' → cap' ≤ 64 → ∀ (H : Heap) (locs : List Loc) (cells slots : Nat), cells ≤ 1 → slots ≤ 64 → va_P G.1 zcl (zLo G b q' as.length times ++ (zAr G q' cap' as ++ (ks ++ w))) H → va_D A (zLo G b q' as.length times ++ (zAr G q' cap' as ++ (ks ++ w))) → va_S A s.heap H locs → ∀ ls : Array Slot, lv_has ls 3 [(0, .ref b), (1, .ref a)] → W p l e (zR 2 1 64) s m ([.ref b, .ref a] : List Value).toArray below meth c H locs cells slots (MQ below (zQe G (fun u : Nat × Nat => as.length + 1 ≤ u.2 ∧ u.2 ≤ 64) (fun _ => none) (fun u => zLo G b u.1 (as.length + 1) times ++ (zAr G u.1 u.2 (as ++ [a]) ++ (ks ++ w))) A) ([.ref b, .ref a] : List Value).toArray s 1 64 A) (F0 m 41 ls []) := by
    intro q' cap' hlt h64 H locs cells slots hce hsl hP hD hS ls hl
    refine lv_aload_n hx hb dX10_add_41 rfl (lv_at hl 0 rfl) ?_
    refine va_get (D := G.1) (ci := 9) (v := .ref q') (C := RX11) (T := TX11) (N := 3) hx hb hts in_X11 hown hK.1 hP 0 rfl rfl 0 (Nat.le_of_ble_eq_true rfl) (hts _ q882) (fun _ h => h) rfl dX10_add_42 ?_
    refine lv_aload_n hx hb dX10_add_45 rfl (lv_at hl 0 rfl) ?_
    refine va_get (D := G.1) (ci := 9) (v := .int (nI as.length)) (C := RX11) (T := TX11) (N := 3) hx hb hts in_X11 hown hK.1 hP 0 rfl rfl 1 (Nat.le_of_ble_eq_true rfl) (hts _ q883) (fun _ h => h) rfl dX10_add_46 ?_
    refine lv_aload_n hx hb dX10_add_49 rfl (lv_at hl 1 rfl) ?_
    obtain ⟨qk, hqk⟩ := List.getElem?_of_mem (show (a, .inr (ci, fs)) ∈ zLo G b q' as.length times ++ (zAr G q' cap' as ++ (ks ++ w)) from List.mem_append_right _ (List.mem_append_right _ (List.mem_append_right _ hw)))
    refine va_astqO hx hb hK.1 hP hD hS 1 6 qk ci rfl rfl (hK.2.1.2.2.2.2.1 _ hca) hqk hci (z_in (k := as.length) rfl hlt (by omega)) dX10_add_50 (fun H locs hP hD hS => ?_)
    rw [nI_clamp (show as.length < 2 ^ 31 by omega), zAr_up] at hP hD
    have hP : va_P G.1 zcl (zLo G b q' as.length times ++ (zAr G q' cap' (as ++ [a]) ++ (ks ++ w))) H := hP
    have hD : va_D A (zLo G b q' as.length times ++ (zAr G q' cap' (as ++ [a]) ++ (ks ++ w))) := hD
    refine lv_aload_n hx hb dX10_add_51 rfl (lv_at hl 0 rfl) ?_
    refine lv_dup hx hb dX10_add_52 rfl ?_
    refine va_get (D := G.1) (ci := 9) (v := .int (nI as.length)) (C := RX11) (T := TX11) (N := 3) hx hb hts in_X11 hown hK.1 hP 0 rfl rfl 1 (Nat.le_of_ble_eq_true rfl) (hts _ q883) (fun _ h => h) rfl dX10_add_53 ?_
    refine lv_iconst (v := 1) hx hb dX10_add_56 (by decide) ?_
    refine zr_iaddN as.length 1 hx hb dX10_add_57 ?_
    refine va_put (D := G.1) (ci := 9) (v := .int (nI (as.length + 1))) (ty := .int) (C := RX11) (T := TX11) (N := 3) hx hb hts in_X11 tyX11 tyX11_ok nmX11 hown hK.1 hP hD hS 0 rfl rfl 1 (Nat.le_of_ble_eq_true rfl) (hts _ q883) (fun _ h => h) rfl (tyX11_ok 1 (Nat.le_of_ble_eq_true rfl)) rfl rfl (Nat.le_of_ble_eq_true rfl) dX10_add_58 (fun H locs hP hD hS => ?_)
    have hP : va_P G.1 zcl (zLo G b q' (as.length + 1) times ++ (zAr G q' cap' (as ++ [a]) ++ (ks ++ w))) H := hP
    have hD : va_D A (zLo G b q' (as.length + 1) times ++ (zAr G q' cap' (as ++ [a]) ++ (ks ++ w))) := hD
    exact zr_env (q', cap') hx hb hr hlocks hP hD hS dX10_add_61 rfl ⟨hlt, h64⟩ hce hsl
  refine lv_aload_n hx hb dX10_add_0 rfl (lv_at hl 0 rfl) ?_
  refine va_get (D := G.1) (ci := 9) (v := .int (nI as.length)) (C := RX11) (T := TX11) (N := 3) hx hb hts in_X11 hown hK.1 hP 0 rfl rfl 1 (Nat.le_of_ble_eq_true rfl) (hts _ q883) (fun _ h => h) rfl dX10_add_1 ?_
  refine lv_aload_n hx hb dX10_add_4 rfl (lv_at hl 0 rfl) ?_
  refine va_get (D := G.1) (ci := 9) (v := .ref q) (C := RX11) (T := TX11) (N := 3) hx hb hts in_X11 hown hK.1 hP 0 rfl rfl 0 (Nat.le_of_ble_eq_true rfl) (hts _ q882) (fun _ h => h) rfl dX10_add_5 ?_
  refine va_alen hx hb hK.1 hP 1 6 rfl rfl (v := nI cap) rfl dX10_add_8 ?_
  refine zr_ne as.length cap (by omega) (by omega) (tgt := 41) hx hb dX10_add_9 (by decide) (fun h8 => ?_) (fun h8 => ?_)
  · exact hJ q cap (by omega) hc64 H locs 0 0 (by omega) (by omega) hP hD hS ls hl
  · have hcl : as.length = cap := h8
    refine lv_iconst (v := 2) hx hb dX10_add_12 (by decide) ?_
    refine lv_aload_n hx hb dX10_add_13 rfl (lv_at hl 0 rfl) ?_
    refine va_get (D := G.1) (ci := 9) (v := .int (nI as.length)) (C := RX11) (T := TX11) (N := 3) hx hb hts in_X11 hown hK.1 hP 0 rfl rfl 1 (Nat.le_of_ble_eq_true rfl) (hts _ q883) (fun _ h => h) rfl dX10_add_14 ?_
    refine zr_imulN 2 as.length hx hb dX10_add_17 ?_
    refine zr_newq (N' := 2 * as.length) 6 hx hb hown (hts _ q879) (hK.2.1.2.2.1 "WindowHill$Step" (by decide)) rfl hK hP hD hS hA (nI_pos (by omega)) (nI_clamp (by omega)) (by omega) (by show 0 + 1 ≤ 1; omega) (by show 0 + 2 * as.length ≤ 64; omega) dX10_add_18 (fun qn H hP hD hS => ?_)
    have hP : va_P G.1 zcl (zLo G b q as.length times ++ ([(qn, .inl (G.2 6, 2 * as.length, .inr (.inr (.inr (.inr (fun _ => none))))))] ++ (zAr G q cap as ++ (ks ++ w)))) H := zP_perm zpn hP
    have hD : va_D A (zLo G b q as.length times ++ ([(qn, .inl (G.2 6, 2 * as.length, .inr (.inr (.inr (.inr (fun _ => none))))))] ++ (zAr G q cap as ++ (ks ++ w)))) := zD_perm zpn hD
    refine lv_astore_n (lv' := [(2, .ref qn), (0, .ref b), (1, .ref a)]) hx hb dX10_add_21 rfl hl (by decide) rfl (fun ls hl => ?_)
    refine lv_aload_n hx hb dX10_add_22 rfl (lv_at hl 1 rfl) ?_
    refine va_get (D := G.1) (ci := 9) (v := .ref q) (C := RX11) (T := TX11) (N := 3) hx hb hts in_X11 hown hK.1 hP 0 rfl rfl 0 (Nat.le_of_ble_eq_true rfl) (hts _ q882) (fun _ h => h) rfl dX10_add_23 ?_
    refine lv_iconst (v := 0) hx hb dX10_add_26 (by decide) ?_
    refine lv_aload_n hx hb dX10_add_27 rfl (lv_at hl 0 rfl) ?_
    refine lv_iconst (v := 0) hx hb dX10_add_28 (by decide) ?_
    refine lv_aload_n hx hb dX10_add_29 rfl (lv_at hl 1 rfl) ?_
    refine va_get (D := G.1) (ci := 9) (v := .int (nI as.length)) (C := RX11) (T := TX11) (N := 3) hx hb hts in_X11 hown hK.1 hP 0 rfl rfl 1 (Nat.le_of_ble_eq_true rfl) (hts _ q883) (fun _ h => h) rfl dX10_add_30 ?_
    refine zr_copyq (C := "WindowHill$Step") (ws' := zLo G b q as.length times ++ ([(qn, .inl (G.2 6, 2 * as.length, .inr (.inr (.inr (.inr (va_cpy (fun i => as[i]?) (fun _ => none) 0 0 as.length))))))] ++ (zAr G q cap as ++ (ks ++ w)))) as.length 6 hx hb (hml.trans hl.1.symm) hown (hts _ q959) (hts _ q612) (hts _ q611) (hts _ q150) hK hP hD hS 2 1 rfl rfl rfl rfl hcap (by omega) (by omega) (fun i hi => ?_) rfl (Nat.le_of_ble_eq_true rfl) ⟨by show 1 ≤ 2; omega, by show 64 ≤ 64 * 2; omega⟩ dX10_add_33 (fun H locs hP hD hS => ?_)
    · obtain ⟨ci1, fs1, r1, hm1, hr1, hc1'⟩ := hkid i as[i] (List.getElem?_eq_getElem hi)
      exact ⟨as[i], ci1, fs1, r1, List.getElem?_eq_getElem hi, List.mem_append_right _ (List.mem_append_right _ (List.mem_append_right _ (List.mem_append_left _ hm1))), hr1, hK.2.1.2.2.2.2.1 _ hc1'⟩
    · rw [zAr_cpy] at hP hD
      have hP : va_P G.1 zcl (zLo G b q as.length times ++ ([(qn, .inl (G.2 6, 2 * as.length, .inr (.inr (.inr (.inr (fun i => as[i]?))))))] ++ (zAr G q cap as ++ (ks ++ w)))) H := hP
      have hD : va_D A (zLo G b q as.length times ++ ([(qn, .inl (G.2 6, 2 * as.length, .inr (.inr (.inr (.inr (fun i => as[i]?))))))] ++ (zAr G q cap as ++ (ks ++ w)))) := hD
      refine lv_aload_n hx hb dX10_add_36 rfl (lv_at hl 1 rfl) ?_
      refine lv_aload_n hx hb dX10_add_37 rfl (lv_at hl 0 rfl) ?_
      refine va_put (D := G.1) (ci := 9) (v := .ref qn) (ty := (.array (.object "WindowHill$Step"))) (C := RX11) (T := TX11) (N := 3) hx hb hts in_X11 tyX11 tyX11_ok nmX11 hown hK.1 hP hD hS 0 rfl rfl 0 (Nat.le_of_ble_eq_true rfl) (hts _ q882) (fun _ h => h) rfl (tyX11_ok 0 (Nat.le_of_ble_eq_true rfl)) rfl rfl (Nat.le_of_ble_eq_true rfl) dX10_add_38 (fun H locs hP hD hS => ?_)
      have hP : va_P G.1 zcl (zLo G b qn as.length times ++ ([(qn, .inl (G.2 6, 2 * as.length, .inr (.inr (.inr (.inr (fun i => as[i]?))))))] ++ (zAr G q cap as ++ (ks ++ w)))) H := hP
      have hD : va_D A (zLo G b qn as.length times ++ ([(qn, .inl (G.2 6, 2 * as.length, .inr (.inr (.inr (.inr (fun i => as[i]?))))))] ++ (zAr G q cap as ++ (ks ++ w)))) := hD
      exact hJ qn (2 * as.length) (by omega) (by omega) H locs _ _ (Nat.le_refl 1) (by omega) (zP_subl zsd hP) (zD_subl zsd hD) hS ls (lv_sub hl [1, 2] rfl)
set_option maxHeartbeats 4000000 in
set_option maxRecDepth 100000 in
theorem mt_addW (l : Launch) (G : zG) (b q cap a : Nat) (w_what w_num w_sign : Int32) (as : List Nat) (ks w : va_W) (ci : Nat) (r : vw_C) (fs : List Value) (hcap : as.length ≤ cap) (hc1 : 1 ≤ cap) (hc64 : cap ≤ 64) (h30 : as.length ≤ 30) (hkid : zKc ks as) (hw : (a, .inr (ci, fs)) ∈ w) (hci : zcl[ci]? = some r) (hca : (r.1, "WindowHill$Step") ∈ zCA) (sz : Nat) : Met l yX10_add (ws_ yX10_add cX10_add 3 none) (zR 2 1 64) (zPm G sz [.ref b, .ref a] (wW_ G b q (nI as.length) w_what w_num w_sign ++ (zAr G q cap as ++ (ks ++ w)))) (zQe G (fun u : Nat × Nat => as.length + 1 ≤ u.2 ∧ u.2 ≤ 64) (fun _ => none) (fun u => wW_ G b u.1 (nI (as.length + 1)) w_what w_num w_sign ++ (zAr G u.1 u.2 (as ++ [a]) ++ (ks ++ w))) (va_A (wW_ G b q (nI as.length) w_what w_num w_sign ++ (zAr G q cap as ++ (ks ++ w))) sz)) 1 64 (va_A (wW_ G b q (nI as.length) w_what w_num w_sign ++ (zAr G q cap as ++ (ks ++ w))) sz) := by
  refine zr_entE (by decide) (Nat.le_of_ble_eq_true rfl) ?_
  intro p e s m below meth c ⟨hx, hb, hr, hml, hown, hts, hlocks, hnm⟩ ls hl hP hK A hE hA hD hS
  have hown : s.vm.findClass RX10 = some m.cls := hown
  have hl : lv_has ls 3 [(0, .ref b), (1, .ref a)] := hl
  obtain ⟨H, hH⟩ : ∃ H, H = s.heap := ⟨_, rfl⟩
  obtain ⟨locs, hlo⟩ : ∃ L : List Loc, L = [] := ⟨_, rfl⟩
  rw [← hH] at hP
  have hS : va_S A s.heap H locs := by rw [hH, hlo]; exact va_S.rf
  have hgo : W p l e (zR 2 1 64) s m ([.ref b, .ref a] : List Value).toArray below meth c H locs 0 0 (MQ below (zQe G (fun u : Nat × Nat => as.length + 1 ≤ u.2 ∧ u.2 ≤ 64) (fun _ => none) (fun u => wW_ G b u.1 (nI (as.length + 1)) w_what w_num w_sign ++ (zAr G u.1 u.2 (as ++ [a]) ++ (ks ++ w))) A) ([.ref b, .ref a] : List Value).toArray s 1 64 A) (F0 m 0 ls []) := ?_
  · rw [hH, hlo] at hgo; exact hgo
  clear hH hlo
  have hJ : ∀ (q' cap' : Nat), as.length < cap' → cap' ≤ 64 → ∀ (H : Heap) (locs : List Loc) (cells slots : Nat), cells ≤ 1 → slots ≤ 64 → va_P G.1 zcl (wW_ G b q' (nI as.length) w_what w_num w_sign ++ (zAr G q' cap' as ++ (ks ++ w))) H → va_D A (wW_ G b q' (nI as.length) w_what w_num w_sign ++ (zAr G q' cap' as ++ (ks ++ w))) → va_S A s.heap H locs → ∀ ls : Array Slot, lv_has ls 3 [(0, .ref b), (1, .ref a)] → W p l e (zR 2 1 64) s m ([.ref b, .ref a] : List Value).toArray below meth c H locs cells slots (MQ below (zQe G (fun u : Nat × Nat => as.length + 1 ≤ u.2 ∧ u.2 ≤ 64) (fun _ => none) (fun u => wW_ G b u.1 (nI (as.length + 1)) w_what w_num w_sign ++ (zAr G u.1 u.2 (as ++ [a]) ++ (ks ++ w))) A) ([.ref b, .ref a] : List Value).toArray s 1 64 A) (F0 m 41 ls []) := by
    intro q' cap' hlt h64 H locs cells slots hce hsl hP hD hS ls hl
    refine lv_aload_n hx hb dX10_add_41 rfl (lv_at hl 0 rfl) ?_
    refine va_get (D := G.1) (ci := 10) (v := .ref q') (C := RX12) (T := TX12) (N := 5) hx hb hts in_X12 hown hK.1 hP 0 rfl rfl 0 (Nat.le_of_ble_eq_true rfl) (hts _ q882) (fun _ h => h) rfl dX10_add_42 ?_
    refine lv_aload_n hx hb dX10_add_45 rfl (lv_at hl 0 rfl) ?_
    refine va_get (D := G.1) (ci := 10) (v := .int (nI as.length)) (C := RX12) (T := TX12) (N := 5) hx hb hts in_X12 hown hK.1 hP 0 rfl rfl 1 (Nat.le_of_ble_eq_true rfl) (hts _ q883) (fun _ h => h) rfl dX10_add_46 ?_
    refine lv_aload_n hx hb dX10_add_49 rfl (lv_at hl 1 rfl) ?_
    obtain ⟨qk, hqk⟩ := List.getElem?_of_mem (show (a, .inr (ci, fs)) ∈ wW_ G b q' (nI as.length) w_what w_num w_sign ++ (zAr G q' cap' as ++ (ks ++ w)) from List.mem_append_right _ (List.mem_append_right _ (List.mem_append_right _ hw)))
    refine va_astqO hx hb hK.1 hP hD hS 1 6 qk ci rfl rfl (hK.2.1.2.2.2.2.1 _ hca) hqk hci (z_in (k := as.length) rfl hlt (by omega)) dX10_add_50 (fun H locs hP hD hS => ?_)
    rw [nI_clamp (show as.length < 2 ^ 31 by omega), zAr_up] at hP hD
    have hP : va_P G.1 zcl (wW_ G b q' (nI as.length) w_what w_num w_sign ++ (zAr G q' cap' (as ++ [a]) ++ (ks ++ w))) H := hP
    have hD : va_D A (wW_ G b q' (nI as.length) w_what w_num w_sign ++ (zAr G q' cap' (as ++ [a]) ++ (ks ++ w))) := hD
    refine lv_aload_n hx hb dX10_add_51 rfl (lv_at hl 0 rfl) ?_
    refine lv_dup hx hb dX10_add_52 rfl ?_
    refine va_get (D := G.1) (ci := 10) (v := .int (nI as.length)) (C := RX12) (T := TX12) (N := 5) hx hb hts in_X12 hown hK.1 hP 0 rfl rfl 1 (Nat.le_of_ble_eq_true rfl) (hts _ q883) (fun _ h => h) rfl dX10_add_53 ?_
    refine lv_iconst (v := 1) hx hb dX10_add_56 (by decide) ?_
    refine zr_iaddN as.length 1 hx hb dX10_add_57 ?_
    refine va_put (D := G.1) (ci := 10) (v := .int (nI (as.length + 1))) (ty := .int) (C := RX12) (T := TX12) (N := 5) hx hb hts in_X12 tyX12 tyX12_ok nmX12 hown hK.1 hP hD hS 0 rfl rfl 1 (Nat.le_of_ble_eq_true rfl) (hts _ q883) (fun _ h => h) rfl (tyX12_ok 1 (Nat.le_of_ble_eq_true rfl)) rfl rfl (Nat.le_of_ble_eq_true rfl) dX10_add_58 (fun H locs hP hD hS => ?_)
    have hP : va_P G.1 zcl (wW_ G b q' (nI (as.length + 1)) w_what w_num w_sign ++ (zAr G q' cap' (as ++ [a]) ++ (ks ++ w))) H := hP
    have hD : va_D A (wW_ G b q' (nI (as.length + 1)) w_what w_num w_sign ++ (zAr G q' cap' (as ++ [a]) ++ (ks ++ w))) := hD
    exact zr_env (q', cap') hx hb hr hlocks hP hD hS dX10_add_61 rfl ⟨hlt, h64⟩ hce hsl
  refine lv_aload_n hx hb dX10_add_0 rfl (lv_at hl 0 rfl) ?_
  refine va_get (D := G.1) (ci := 10) (v := .int (nI as.length)) (C := RX12) (T := TX12) (N := 5) hx hb hts in_X12 hown hK.1 hP 0 rfl rfl 1 (Nat.le_of_ble_eq_true rfl) (hts _ q883) (fun _ h => h) rfl dX10_add_1 ?_
  refine lv_aload_n hx hb dX10_add_4 rfl (lv_at hl 0 rfl) ?_
  refine va_get (D := G.1) (ci := 10) (v := .ref q) (C := RX12) (T := TX12) (N := 5) hx hb hts in_X12 hown hK.1 hP 0 rfl rfl 0 (Nat.le_of_ble_eq_true rfl) (hts _ q882) (fun _ h => h) rfl dX10_add_5 ?_
  refine va_alen hx hb hK.1 hP 1 6 rfl rfl (v := nI cap) rfl dX10_add_8 ?_
  refine zr_ne as.length cap (by omega) (by omega) (tgt := 41) hx hb dX10_add_9 (by decide) (fun h8 => ?_) (fun h8 => ?_)
  · exact hJ q cap (by omega) hc64 H locs 0 0 (by omega) (by omega) hP hD hS ls hl
  · have hcl : as.length = cap := h8
    refine lv_iconst (v := 2) hx hb dX10_add_12 (by decide) ?_
    refine lv_aload_n hx hb dX10_add_13 rfl (lv_at hl 0 rfl) ?_
    refine va_get (D := G.1) (ci := 10) (v := .int (nI as.length)) (C := RX12) (T := TX12) (N := 5) hx hb hts in_X12 hown hK.1 hP 0 rfl rfl 1 (Nat.le_of_ble_eq_true rfl) (hts _ q883) (fun _ h => h) rfl dX10_add_14 ?_
    refine zr_imulN 2 as.length hx hb dX10_add_17 ?_
    refine zr_newq (N' := 2 * as.length) 6 hx hb hown (hts _ q879) (hK.2.1.2.2.1 "WindowHill$Step" (by decide)) rfl hK hP hD hS hA (nI_pos (by omega)) (nI_clamp (by omega)) (by omega) (by show 0 + 1 ≤ 1; omega) (by show 0 + 2 * as.length ≤ 64; omega) dX10_add_18 (fun qn H hP hD hS => ?_)
    have hP : va_P G.1 zcl (wW_ G b q (nI as.length) w_what w_num w_sign ++ ([(qn, .inl (G.2 6, 2 * as.length, .inr (.inr (.inr (.inr (fun _ => none))))))] ++ (zAr G q cap as ++ (ks ++ w)))) H := zP_perm zpn hP
    have hD : va_D A (wW_ G b q (nI as.length) w_what w_num w_sign ++ ([(qn, .inl (G.2 6, 2 * as.length, .inr (.inr (.inr (.inr (fun _ => none))))))] ++ (zAr G q cap as ++ (ks ++ w)))) := zD_perm zpn hD
    refine lv_astore_n (lv' := [(2, .ref qn), (0, .ref b), (1, .ref a)]) hx hb dX10_add_21 rfl hl (by decide) rfl (fun ls hl => ?_)
    refine lv_aload_n hx hb dX10_add_22 rfl (lv_at hl 1 rfl) ?_
    refine va_get (D := G.1) (ci := 10) (v := .ref q) (C := RX12) (T := TX12) (N := 5) hx hb hts in_X12 hown hK.1 hP 0 rfl rfl 0 (Nat.le_of_ble_eq_true rfl) (hts _ q882) (fun _ h => h) rfl dX10_add_23 ?_
    refine lv_iconst (v := 0) hx hb dX10_add_26 (by decide) ?_
    refine lv_aload_n hx hb dX10_add_27 rfl (lv_at hl 0 rfl) ?_
    refine lv_iconst (v := 0) hx hb dX10_add_28 (by decide) ?_
    refine lv_aload_n hx hb dX10_add_29 rfl (lv_at hl 1 rfl) ?_
    refine va_get (D := G.1) (ci := 10) (v := .int (nI as.length)) (C := RX12) (T := TX12) (N := 5) hx hb hts in_X12 hown hK.1 hP 0 rfl rfl 1 (Nat.le_of_ble_eq_true rfl) (hts _ q883) (fun _ h => h) rfl dX10_add_30 ?_
    refine zr_copyq (C := "WindowHill$Step") (ws' := wW_ G b q (nI as.length) w_what w_num w_sign ++ ([(qn, .inl (G.2 6, 2 * as.length, .inr (.inr (.inr (.inr (va_cpy (fun i => as[i]?) (fun _ => none) 0 0 as.length))))))] ++ (zAr G q cap as ++ (ks ++ w)))) as.length 6 hx hb (hml.trans hl.1.symm) hown (hts _ q959) (hts _ q612) (hts _ q611) (hts _ q150) hK hP hD hS 2 1 rfl rfl rfl rfl hcap (by omega) (by omega) (fun i hi => ?_) rfl (Nat.le_of_ble_eq_true rfl) ⟨by show 1 ≤ 2; omega, by show 64 ≤ 64 * 2; omega⟩ dX10_add_33 (fun H locs hP hD hS => ?_)
    · obtain ⟨ci1, fs1, r1, hm1, hr1, hc1'⟩ := hkid i as[i] (List.getElem?_eq_getElem hi)
      exact ⟨as[i], ci1, fs1, r1, List.getElem?_eq_getElem hi, List.mem_append_right _ (List.mem_append_right _ (List.mem_append_right _ (List.mem_append_left _ hm1))), hr1, hK.2.1.2.2.2.2.1 _ hc1'⟩
    · rw [zAr_cpy] at hP hD
      have hP : va_P G.1 zcl (wW_ G b q (nI as.length) w_what w_num w_sign ++ ([(qn, .inl (G.2 6, 2 * as.length, .inr (.inr (.inr (.inr (fun i => as[i]?))))))] ++ (zAr G q cap as ++ (ks ++ w)))) H := hP
      have hD : va_D A (wW_ G b q (nI as.length) w_what w_num w_sign ++ ([(qn, .inl (G.2 6, 2 * as.length, .inr (.inr (.inr (.inr (fun i => as[i]?))))))] ++ (zAr G q cap as ++ (ks ++ w)))) := hD
      refine lv_aload_n hx hb dX10_add_36 rfl (lv_at hl 1 rfl) ?_
      refine lv_aload_n hx hb dX10_add_37 rfl (lv_at hl 0 rfl) ?_
      refine va_put (D := G.1) (ci := 10) (v := .ref qn) (ty := (.array (.object "WindowHill$Step"))) (C := RX12) (T := TX12) (N := 5) hx hb hts in_X12 tyX12 tyX12_ok nmX12 hown hK.1 hP hD hS 0 rfl rfl 0 (Nat.le_of_ble_eq_true rfl) (hts _ q882) (fun _ h => h) rfl (tyX12_ok 0 (Nat.le_of_ble_eq_true rfl)) rfl rfl (Nat.le_of_ble_eq_true rfl) dX10_add_38 (fun H locs hP hD hS => ?_)
      have hP : va_P G.1 zcl (wW_ G b qn (nI as.length) w_what w_num w_sign ++ ([(qn, .inl (G.2 6, 2 * as.length, .inr (.inr (.inr (.inr (fun i => as[i]?))))))] ++ (zAr G q cap as ++ (ks ++ w)))) H := hP
      have hD : va_D A (wW_ G b qn (nI as.length) w_what w_num w_sign ++ ([(qn, .inl (G.2 6, 2 * as.length, .inr (.inr (.inr (.inr (fun i => as[i]?))))))] ++ (zAr G q cap as ++ (ks ++ w)))) := hD
      exact hJ qn (2 * as.length) (by omega) (by omega) H locs _ _ (Nat.le_refl 1) (by omega) (zP_subl zsd hP) (zD_subl zsd hD) hS ls (lv_sub hl [1, 2] rfl)
def yAft (χ : yK) (ρ ρ' : yR) : Prop := yOKr χ ρ' ∧ ρ.2.1 ≤ ρ'.1 ∧ ρ.2.2.2.2.1 ≤ ρ'.2.2.2.2.1 ∧ ρ'.2.2.2.2.1 ≤ 30
def zBlkOK (l : Launch) (G : zG) (χ : yK) (wi Db : Nat) {β : Type} (tr : β → Nat → va_W → Prop) (wf : β → Prop) (blk : Bool → yR → yR × Option β) : Prop := ∀ (w : Bool) (ρ : yR), yOKr χ ρ → ρ.2.2.2.2.1 ≤ 30 → ¬ ρ.2.2.1 = 0 → ∀ sz, vx_Met l yX8_block (ws_ yX8_block cX8_block 5 (some (.object "WindowHill$Block"))) (zR Db (2 + 3 * ((blk w ρ).1.2.2.2.2.1 - ρ.2.2.2.2.1)) (9 + 80 * ((blk w ρ).1.2.2.2.2.1 - ρ.2.2.2.2.1))) (zPm G sz [.ref (χ.1 10), .ref (χ.1 22), .int (zb w), .int (nI wi)] (zRT G χ ρ)) (zQe G (fun u : Nat × va_W => ∃ t, (blk w ρ).2 = some t ∧ tr t u.1 u.2 ∧ wf t ∧ yAft χ ρ (blk w ρ).1) (fun u => some (.ref u.1)) (fun u => zRT G χ (blk w ρ).1 ++ u.2) (va_A (zRT G χ ρ) sz)) (zXe G (fun _ : Nat × va_W => (blk w ρ).2 = none) RX2 (χ.1 14) (fun _ => zRT G χ (blk w ρ).1) (va_A (zRT G χ ρ) sz)) (2 + 3 * ((blk w ρ).1.2.2.2.2.1 - ρ.2.2.2.2.1)) (9 + 80 * ((blk w ρ).1.2.2.2.2.1 - ρ.2.2.2.2.1)) (va_A (zRT G χ ρ) sz)
def zStpOK (l : Launch) (G : zG) (χ : yK) (wi Ds : Nat) {β : Type} (tr : β → Nat → va_W → Prop) (wf : β → Prop) (stp : yR → yR × Option β) : Prop := ∀ (ρ : yR) (hb : yHb) (b q cap : Nat) (as : List Nat) (ks : va_W), yOKr χ ρ → ρ.2.2.2.2.1 ≤ 30 → as.length ≤ ρ.2.2.2.2.1 → as.length ≤ cap → 1 ≤ cap → cap ≤ 64 → zKc ks as → ∀ sz, vx_Met l yX8_step (ws_ yX8_step cX8_step 7 none) (zR Ds (3 * ((stp ρ).1.2.2.2.2.1 - ρ.2.2.2.2.1)) (80 * ((stp ρ).1.2.2.2.2.1 - ρ.2.2.2.2.1))) (zPm G sz [.ref (χ.1 10), .ref (χ.1 22), .ref b, .int (nI wi)] (zRT G χ ρ ++ (zBk G b q as.length hb ++ (zAr G q cap as ++ ks)))) (zQe G (fun u : (Nat × Nat × Nat) × va_W => ∃ t, (stp ρ).2 = some t ∧ tr t u.1.2.2 u.2 ∧ wf t ∧ yAft χ ρ (stp ρ).1 ∧ ρ.1 < (stp ρ).1.1 ∧ as.length + 1 ≤ u.1.2.1 ∧ u.1.2.1 ≤ 64 ∧ ρ.2.2.2.2.1 + 1 ≤ (stp ρ).1.2.2.2.2.1) (fun _ => none) (fun u => zRT G χ (stp ρ).1 ++ (zBk G b u.1.1 (as.length + 1) hb ++ (zAr G u.1.1 u.1.2.1 (as ++ [u.1.2.2]) ++ (ks ++ u.2)))) (va_A (zRT G χ ρ ++ (zBk G b q as.length hb ++ (zAr G q cap as ++ ks))) sz)) (zXe G (fun _ : (Nat × Nat × Nat) × va_W => (stp ρ).2 = none) RX2 (χ.1 14) (fun _ => zRT G χ (stp ρ).1) (va_A (zRT G χ ρ ++ (zBk G b q as.length hb ++ (zAr G q cap as ++ ks))) sz)) (3 * ((stp ρ).1.2.2.2.2.1 - ρ.2.2.2.2.1)) (80 * ((stp ρ).1.2.2.2.2.1 - ρ.2.2.2.2.1)) (va_A (zRT G χ ρ ++ (zBk G b q as.length hb ++ (zAr G q cap as ++ ks))) sz)
