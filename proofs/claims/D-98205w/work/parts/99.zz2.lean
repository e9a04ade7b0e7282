/-! r51: the state of both objects; families of cells -/
section R51
theorem fl_perm {L L' : List va_W} (h : L.Perm L') : L.flatten.Perm L'.flatten := by
  induction h with
  | nil => exact List.Perm.refl _
  | cons x _ ih => exact List.Perm.append_left x ih
  | swap x y l =>
    show (y ++ (x ++ l.flatten)).Perm (x ++ (y ++ l.flatten))
    rw [← List.append_assoc, ← List.append_assoc]
    exact List.Perm.append_right _ List.perm_append_comm
  | trans _ _ h1 h2 => exact h1.trans h2
theorem perm_posG {α : Type} {ws ws' : List α} (n : Nat) (is : List Nat) (hl : ws.length = n) (hp : (List.range n).isPerm is = true) (hs : is.map (fun i => ws[i]?) = ws'.map some) : ws.Perm ws' := by
  have h1 : (List.range n).map (fun i => ws[i]?) = ws.map some := by
    apply List.ext_getElem?
    intro i
    rw [List.getElem?_map, List.getElem?_map]
    by_cases c : i < n
    · rw [List.getElem?_range c, List.getElem?_eq_getElem (show i < ws.length by omega)]
      show some (ws[i]?) = some (some _)
      rw [List.getElem?_eq_getElem (show i < ws.length by omega)]
    · rw [List.getElem?_eq_none (by rw [List.length_range]; omega), List.getElem?_eq_none (by omega)]
      rfl
  have h2 : (ws.map some).Perm (ws'.map some) := by
    rw [← h1, ← hs]
    exact (List.isPerm_iff.mp hp).map _
  have h3 := h2.filterMap id
  rw [List.filterMap_map, List.filterMap_map] at h3
  simpa using h3
/-- blocks out: rest and callee's -/
theorem bl_out {L R C : List va_W} {w0 : va_W} (h : L.Perm (R ++ C)) (hc : C.flatten = w0) : L.flatten.Perm (R.flatten ++ w0) := by
  rw [← hc, ← List.flatten_append]
  exact fl_perm h
theorem bl_in {L R C : List va_W} {w1 : va_W} (h : (R ++ C).Perm L) (hc : C.flatten = w1) : (R.flatten ++ w1).Perm L.flatten := by
  rw [← hc, ← List.flatten_append]
  exact fl_perm h
theorem fl1 {a : va_W} : [a].flatten = a := List.append_nil a
theorem fl2 {a b : va_W} : [a, b].flatten = a ++ b := by show a ++ (b ++ []) = _; rw [List.append_nil]
theorem fl3 {a b c : va_W} : [a, b, c].flatten = a ++ b ++ c := by show a ++ (b ++ (c ++ [])) = _; rw [List.append_nil, List.append_assoc]
theorem fl4 {a b c d : va_W} : [a, b, c, d].flatten = a ++ b ++ c ++ d := by show a ++ (b ++ (c ++ (d ++ []))) = _; rw [List.append_nil, List.append_assoc, List.append_assoc]
theorem fl5 {a b c d e : va_W} : [a, b, c, d, e].flatten = a ++ b ++ c ++ d ++ e := by show a ++ (b ++ (c ++ (d ++ (e ++ [])))) = _; rw [List.append_nil, List.append_assoc, List.append_assoc, List.append_assoc]
theorem fl6 {a b c d e f : va_W} : [a, b, c, d, e, f].flatten = a ++ b ++ c ++ d ++ e ++ f := by show a ++ (b ++ (c ++ (d ++ (e ++ (f ++ []))))) = _; rw [List.append_nil, List.append_assoc, List.append_assoc, List.append_assoc, List.append_assoc]
theorem fl7 {a b c d e f g : va_W} : [a, b, c, d, e, f, g].flatten = a ++ b ++ c ++ d ++ e ++ f ++ g := by show a ++ (b ++ (c ++ (d ++ (e ++ (f ++ (g ++ [])))))) = _; rw [List.append_nil, List.append_assoc, List.append_assoc, List.append_assoc, List.append_assoc, List.append_assoc]
/-- one block for a like one -/
theorem fl_swap {L R : List va_W} {a b : va_W} (h : a.Perm b) : (L ++ a :: R).flatten.Perm (L ++ b :: R).flatten := by
  rw [List.flatten_append, List.flatten_append]
  exact List.Perm.append_left _ (List.Perm.append_right _ h)
def fam (g : Nat → va_W) : Nat → va_W
  | 0 => []
  | n + 1 => fam g n ++ g n
theorem fam_congr {g g' : Nat → va_W} : ∀ N, (∀ j, j < N → g' j = g j) → fam g' N = fam g N
  | 0, _ => rfl
  | n + 1, h => by
    show fam g' n ++ g' n = fam g n ++ g n
    rw [fam_congr n (fun j hj => h j (by omega)), h n (by omega)]
theorem fam_out (g : Nat → va_W) : ∀ N k, k < N → ∃ K, ∀ g' : Nat → va_W, (∀ j, j < N → j ≠ k → g' j = g j) → (fam g' N).Perm (g' k ++ K)
  | 0, k, h => absurd h (Nat.not_lt_zero _)
  | n + 1, k, h => by
    by_cases c : k = n
    · subst c
      refine ⟨fam g k, fun g' e => ?_⟩
      show (fam g' k ++ g' k).Perm _
      rw [fam_congr k (fun j hj => e j (by omega) (by omega))]
      exact List.perm_append_comm
    · obtain ⟨K, hK⟩ := fam_out g n k (by omega)
      refine ⟨K ++ g n, fun g' e => ?_⟩
      show (fam g' n ++ g' n).Perm _
      rw [e n (by omega) (fun q => c q.symm), ← List.append_assoc]
      exact List.Perm.append_right _ (hK g' (fun j j1 j2 => e j (by omega) j2))
theorem fam_out2 (g : Nat → va_W) : ∀ N k i, k < N → i < N → k ≠ i → ∃ K, ∀ g' : Nat → va_W, (∀ j, j < N → j ≠ k → j ≠ i → g' j = g j) → (fam g' N).Perm (g' k ++ (g' i ++ K))
  | 0, k, i, h, _, _ => absurd h (Nat.not_lt_zero _)
  | n + 1, k, i, h, hi, hne => by
    by_cases c : k = n
    · obtain ⟨K, hK⟩ := fam_out g n i (by omega)
      refine ⟨K, fun g' e => ?_⟩
      show (fam g' n ++ g' n).Perm _
      rw [← c] at hK e ⊢
      exact List.perm_append_comm.trans (List.Perm.append_left _ (hK g' (fun j j1 j2 => e j (by omega) (by omega) j2)))
    · by_cases c2 : i = n
      · obtain ⟨K, hK⟩ := fam_out g n k (by omega)
        refine ⟨K, fun g' e => ?_⟩
        show (fam g' n ++ g' n).Perm _
        rw [← c2] at hK e ⊢
        have h1 := List.Perm.append_right (g' i) (hK g' (fun j j1 j2 => e j (by omega) j2 (by omega)))
        rw [List.append_assoc] at h1
        exact h1.trans (List.Perm.append_left _ List.perm_append_comm)
      · obtain ⟨K, hK⟩ := fam_out2 g n k i (by omega) (by omega) hne
        refine ⟨K ++ g n, fun g' e => ?_⟩
        show (fam g' n ++ g' n).Perm _
        have h1 := List.Perm.append_right (g' n) (hK g' (fun j j1 j2 j3 => e j (by omega) j2 j3))
        rw [List.append_assoc, List.append_assoc] at h1
        rw [← e n (by omega) (fun q => c q.symm) (fun q => c2 q.symm)]
        exact h1
def pool {α : Type} (f : α → va_W) (l : List α) : va_W := (l.map f).flatten
theorem pool_perm {α : Type} {f : α → va_W} {l l' : List α} (h : l.Perm l') : (pool f l).Perm (pool f l') := fl_perm (h.map f)
theorem pool_mem {α : Type} {l : List α} {x : α} (h : x ∈ l) : ∃ l', l.Perm (x :: l') := by
  obtain ⟨s, t, rfl⟩ := List.append_of_mem h
  exact ⟨s ++ t, List.perm_middle⟩
theorem pool_cons {α : Type} {f : α → va_W} {l : List α} {x : α} : pool f (x :: l) = f x ++ pool f l := rfl
/-- a town: addresses; wide rows rules citizens; houses always never; ring; beside least most born stays; names of rules, citizens -/
abbrev zTn : Type := (Nat → Nat) × (Nat → Nat) × (Nat → Int32) × Bool × (Nat → Nat → Int32) × (Nat → Nat → Int64)
def tnW (G : zG) (τ : zTn) : va_W := tW G (τ.1 0) (τ.1 1) (τ.1 2) (τ.1 3) (τ.1 4) (τ.1 5) (τ.1 6) (τ.1 7) (nI (τ.2.1 0)) (nI (τ.2.1 1)) (τ.2.2.1 0) (τ.2.2.1 1) (τ.2.2.1 2) (nI (τ.2.1 2)) (nI (τ.2.1 3)) τ.2.2.2.1 (τ.2.2.2.2.1 0) (τ.2.2.2.2.1 1) (τ.2.2.2.2.1 2) (τ.2.2.2.2.2 0)
def tnX (G : zG) (τ : zTn) : va_W := tX_ G (τ.1 5) (τ.1 6) (τ.1 7) (τ.2.2.2.2.2 1) (τ.2.2.2.2.1 3) (τ.2.2.2.2.1 4)
def tnF (G : zG) (τ : zTn) : va_W := tnW G τ ++ tnX G τ
/-- a hill: addresses; its town; lit mayor night oil; born stays seen -/
abbrev zHr : Type := (Nat → Nat) × Nat × Int32 × Int32 × Int32 × Int32 × (Nat → Int32) × (Nat → Int32) × (Nat → Int32)
abbrev zHo : Type := Nat × Option Nat × zHr
def hoV (G : zG) (h : zHr) : va_W := vW_ G (h.1 0) h.2.1 (h.1 1) (h.1 2) (h.1 3) h.2.2.1 h.2.2.2.1 h.2.2.2.2.1 h.2.2.2.2.2.1 h.2.2.2.2.2.2.1 h.2.2.2.2.2.2.2.1 h.2.2.2.2.2.2.2.2
def hoW (G : zG) : Option zHo → va_W
  | none => []
  | some h => kW_ G h.1 (h.2.2.1 0) h.2.1 ++ hoV G h.2.2
/-- what lies in a tray: address, sort, size, numbers -/
abbrev zTy : Type := Nat × Nat × Nat × (Nat → Int64)
def tyW (G : zG) (ta : Nat) : Option zTy → va_W
  | none => xN_ G ta
  | some r => xO_ G ta r.1 ++ jW_ G r.2.1 r.1 r.2.2.1 r.2.2.2
/-- a year: its loop, its array, the array's size, the steps' addresses, their cells, the steps -/
abbrev zYr : Type := Nat × Nat × Nat × List Nat × va_W × List (yT 3)
def yrW (G : zG) (y : zYr) : va_W := zLo G y.1 y.2.1 y.2.2.2.1.length 1 ++ (zAr G y.2.1 y.2.2.1 y.2.2.2.1 ++ y.2.2.2.2.1)
def yrO (G : zG) (y : zYr) : Prop := y.2.2.2.1.length ≤ y.2.2.1 ∧ y.2.2.1 ≤ 64 ∧ zCh (zTr G 3) y.2.2.2.2.2 y.2.2.2.1 y.2.2.2.2.1
/-- the hill set aside: its town, lit mayor night oil, born stays seen -/
abbrev zAs : Type := Nat × Int32 × Int32 × Int32 × Int32 × (Nat → Int32) × (Nat → Int32) × (Nat → Int32)
/-- the blocks of the world -/
def LB (G : zG) (ax : Nat → Nat) (xtr : Nat → Option Nat) (st : Int32) (top bot : Int64) (tp : Nat) (fk fa : Int32) (ny : Option Nat) (mk : Nat) (ld rd bs bm lf : Int32) (hl : Bool) (tape : Nat → Int32) (bv qv : Nat → Value) (bk bp qw lit may nig oil : Int32) (bo sy se : Nat → Int32) (τ : zTn) (v : zAs) (pics : Nat → Int32) (xw : Nat → Nat → Int64) (last : Nat → Int32) (xm : Nat → Option Nat) (tq : Nat → Option zTy) (mq : Nat → Option zHo) (pt : List zTn) (py : List zYr) (mB Z : va_W) : List va_W :=
  [xA_ G (ax 0) (ax 1) (ax 2) (nI tp) fk fa (ax 3) (ax 4) st top bot (ax 5) (ax 6) (nI mk) (ax 7) ld rd (ax 8) bs bm lf (ax 9) (ax 10) hl (ax 11) ny,
   xT_ G (ax 2) tape,
   bW_ G (ax 3) (bv 0) (bv 1) (bv 2) (bv 3) (bv 4) (bv 5) bk bp,
   qW_ G (ax 4) (qv 0) (qv 1) (qv 2) (qv 3) (qv 4) (qv 5) qw,
   hW G (ax 11) (τ.1 0) (ax 12) (ax 13) (ax 14) lit may nig oil bo sy se,
   tnW G τ,
   tnX G τ,
   xP_ G (ax 7) pics,
   xS_ G (ax 8) (fun j => ax (50 + j)) xw,
   xL_ G (ax 10) last,
   hW G (ax 9) v.1 (ax 15) (ax 16) (ax 17) v.2.1 v.2.2.1 v.2.2.2.1 v.2.2.2.2.1 v.2.2.2.2.2.1 v.2.2.2.2.2.2.1 v.2.2.2.2.2.2.2,
   xR_ G (ax 1) xtr,
   xM_ G (ax 6) xm,
   mB,
   fam (fun j => tyW G (ax (40 + j)) (tq j)) 4,
   fam (fun j => hoW G (mq j)) 3,
   pool (tnF G) pt,
   pool (yrW G) py,
   Z]
/-- a slot of the model and a house of the system -/
def zSl (a : Nat → Int32) (nm : Nat → Int64) (τ : zTn) (lit may nig oil : Int32) (bo sy se : Nat → Int32) (ys : Option (List (yT 3))) : Prop :=
  sTw a nm (τ.2.1 0) (τ.2.1 1) (τ.2.1 2) (τ.2.1 3) (τ.2.2.1 0) (τ.2.2.1 1) (τ.2.2.1 2) τ.2.2.2.1 (τ.2.2.2.2.1 0) (τ.2.2.2.2.1 1) (τ.2.2.2.2.1 2) (τ.2.2.2.2.2 0) (τ.2.2.2.2.2 1) ∧ sHl a (τ.2.1 0) (τ.2.1 1) (τ.2.1 2) lit may nig oil bo sy se (τ.2.2.1 0) (τ.2.2.1 1) (τ.2.2.1 2) (τ.2.2.2.2.1 0) ∧ sYr a (τ.2.1 0) (τ.2.1 1) (τ.2.1 2) (τ.2.1 3) ys
def yrL (py : List zYr) (ny : Option Nat) (ys : Option (List (yT 3))) : Prop := (ny = none ∧ ys = none) ∨ ∃ y ∈ py, ny = some y.1 ∧ ys = some y.2.2.2.2.2
def mkL (a : Nat → Int32) (nm : Nat → Int64) (ts : List zTn) (py : List zYr) (h : zHo) : Prop := ∃ τ ∈ ts, ∃ ys, h.2.2.2.1 = τ.1 0 ∧ zSl a nm τ h.2.2.2.2.1 h.2.2.2.2.2.1 h.2.2.2.2.2.2.1 h.2.2.2.2.2.2.2.1 h.2.2.2.2.2.2.2.2.1 h.2.2.2.2.2.2.2.2.2.1 h.2.2.2.2.2.2.2.2.2.2 ys ∧ yrL py h.2.1 ys
def tyL (so mn : Nat → Int32) (tr : Nat → Int64) (tq : Nat → Option zTy) : Prop := ∀ t, t < 4 → pTr so mn tr t ((tq t).map Prod.snd)
def mkS (a : Nat → Int32) (nm : Nat → Int64) (mk : Nat) (xm : Nat → Option Nat) (mq : Nat → Option zHo) (ts : List zTn) (py : List zYr) : Prop := mk ≤ 3 ∧ (∀ j, j < 3 → xm j = (mq j).map Prod.fst) ∧ ∀ i, i < mk → ∃ h, mq i = some h ∧ mkL (fun j => a (410 * (i + 1) + j)) (fun j => nm (10 * (i + 1) + j)) ts py h
/-- what ties the two together -/
def LR (G : zG) (tp : Nat) (ny : Option Nat) (mk : Nat) (tape : Nat → Int32) (lit may nig oil : Int32) (bo sy se : Nat → Int32) (τ : zTn) (last : Nat → Int32) (xm : Nat → Option Nat) (tq : Nat → Option zTy) (mq : Nat → Option zHo) (pt : List zTn) (py : List zYr) (zs fr en : Nat) (a : Nat → Int32) (nm : Nat → Int64) (so mn : Nat → Int32) (tr : Nat → Int64) (lo t0 : Nat → Int32) (ys : Option (List (yT 3))) : Prop :=
  zSl a nm τ lit may nig oil bo sy se ys ∧ yrL py ny ys ∧ (∀ y ∈ py, yrO G y) ∧ mkS a nm mk xm mq (τ :: pt) py ∧ tyL so mn tr tq ∧ (tp ≤ 900 ∧ pBt tape) ∧ (zs ≤ 900 ∧ fr ≤ zs ∧ en ≤ zs) ∧ mI4 a ∧ mLP lo ∧ ∀ k, k < 5 → last k = t0 k
/-- the law's state at its loop -/
def LI (G : zG) (ax : Nat → Nat) (xtr : Nat → Option Nat) (ad : Nat → Nat) (w : va_W) : Prop := ∃ (st : Int32) (top bot : Int64) (tp : Nat) (fk fa : Int32) (ny : Option Nat) (mk : Nat) (ld rd bs bm lf : Int32) (hl : Bool) (tape : Nat → Int32) (bv qv : Nat → Value) (bk bp qw lit may nig oil : Int32) (bo sy se : Nat → Int32) (τ : zTn) (v : zAs) (pics : Nat → Int32) (xw : Nat → Nat → Int64) (last : Nat → Int32) (xm : Nat → Option Nat) (tq : Nat → Option zTy) (mq : Nat → Option zHo) (pt : List zTn) (py : List zYr) (Z : va_W)
    (zs : Nat) (tk : Int32) (fr en : Nat) (vl fl sn dp ct tm tc dr rs : Int32) (a : Nat → Int32) (nm : Nat → Int64) (so mn : Nat → Int32) (tr : Nat → Int64) (tx op be : Nat → Int32) (wy fu : Nat → Int64) (cb lo ra t0 : Nat → Int32) (ys : Option (List (yT 3))),
    w.Perm (LB G ax xtr st top bot tp fk fa ny mk ld rd bs bm lf hl tape bv qv bk bp qw lit may nig oil bo sy se τ v pics xw last xm tq mq pt py (mW G ad st top bot (nI tp) (nI zs) tk (nI fr) (nI en) vl fk fa fl sn dp ct ld rd tm tc dr rs hl (nI mk) a nm so mn tr tape tx op be pics wy fu cb lo ra t0) Z).flatten ∧ LR G tp ny mk tape lit may nig oil bo sy se τ last xm tq mq pt py zs fr en a nm so mn tr lo t0 ys
end R51
