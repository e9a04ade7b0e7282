/-! r53: trays, marks, pools in the world -/
section R53
variable {G : zG} {ax : Nat → Nat} {t so9 : Int32} {f_ pl to_ at_ : Int32} {so mn so' mn' : Nat → Int32} {tr tr' : Nat → Int64} {tq : Nat → Option zTy} {mq : Nat → Option zHo} {tn tn2 s n ra : Nat} {rv : Nat → Int64}
theorem xb_on : xf_onBad t = (false, 1) := by
  unfold xf_onBad
  split <;> rfl
theorem xb_write : xf_writeBad t = (false, 1, 1) := by
  unfold xf_writeBad
  rw [xb_on]
  rfl
theorem xb_read : xf_readBad t = (-1, 1, 1) := by
  unfold xf_readBad
  rw [xb_on]
  rfl
theorem xb_tray : xf_trayBad t so9 = (false, 1, 1) := by
  unfold xf_trayBad
  repeat' split
  all_goals rfl
theorem xb_pour : xf_pourBad f_ pl to_ at_ = (false, 1, 1) := by
  unfold xf_pourBad
  repeat' split
  all_goals rfl
theorem in_nat {p : Int32} {n : Nat} (h : vp_in p n) (hn : n < 2 ^ 31) : ∃ k : Nat, k < n ∧ p = nI k := by
  have h0 : ¬ p < 0 := fun q => h (Or.inl q)
  have e := z_nn h0
  refine ⟨p.toNatClampNeg, ?_, e⟩
  apply Classical.byContradiction
  intro q
  exact h (Or.inr (by omega))
theorem fl_swL {L R M : List va_W} {x y : va_W} (h : x.Perm y) (hy : M.flatten = y) : (L ++ x :: R).flatten.Perm (L ++ (M ++ R)).flatten := by
  rw [List.flatten_append, List.flatten_append, List.flatten_append, hy]
  exact List.Perm.append_left _ (List.Perm.append_right _ h)
theorem fl4b {a b c d : va_W} : [a, b, c, d].flatten = (a ++ b) ++ (c ++ d) := by
  show a ++ (b ++ (c ++ (d ++ []))) = _
  rw [List.append_nil, List.append_assoc]
theorem fl5b {a b c d e : va_W} : [a, b, c, d, e].flatten = (a ++ b) ++ ((c ++ d) ++ e) := by
  show a ++ (b ++ (c ++ (d ++ (e ++ [])))) = _
  rw [List.append_nil, List.append_assoc, List.append_assoc]
theorem fl3b {a b c : va_W} : [a, b, c].flatten = a ++ (b ++ c) := by
  show a ++ (b ++ (c ++ [])) = _
  rw [List.append_nil]
theorem tyL_upd (h : tyL so mn tr tq) (hs : pTs so' mn' tr' tn s n rv) (ho : ∀ t, t ≠ tn → so' t = so t ∧ mn' t = mn t) (hf : ∀ j, ¬ (60 * tn ≤ j ∧ j < 60 * tn + 60) → tr' j = tr j) : tyL so' mn' tr' (fun j => if j = tn then some (ra, s, n, rv) else tq j) := by
  intro t ht
  by_cases c : t = tn
  · subst c
    dsimp only
    rw [if_pos rfl]
    exact hs
  · dsimp only
    rw [if_neg c]
    exact pTr_other _ (ho t c).1 (ho t c).2 (fun k hk => hf _ (by omega)) (h t ht)
theorem fam_ty (G : zG) (ax : Nat → Nat) (tq : Nat → Option zTy) {tn : Nat} (htn : tn < 4) : ∃ Kt, (fam (fun j => tyW G (ax (40 + j)) (tq j)) 4).Perm (tyW G (ax (40 + tn)) (tq tn) ++ Kt) ∧ ∀ r, (fam (fun j => tyW G (ax (40 + j)) ((fun j => if j = tn then some r else tq j) j)) 4).Perm (tyW G (ax (40 + tn)) (some r) ++ Kt) := by
  obtain ⟨Kt, h⟩ := fam_out (fun j => tyW G (ax (40 + j)) (tq j)) 4 tn htn
  refine ⟨Kt, h _ (fun _ _ _ => rfl), fun r => ?_⟩
  have h2 := h (fun j => tyW G (ax (40 + j)) ((fun j => if j = tn then some r else tq j) j)) (fun j _ hj => by dsimp only; rw [if_neg hj])
  dsimp only at h2 ⊢
  rw [if_pos rfl] at h2
  exact h2
theorem fam_ty2 (G : zG) (ax : Nat → Nat) (tq : Nat → Option zTy) {tn tn2 : Nat} (htn : tn < 4) (htn2 : tn2 < 4) (hne : tn ≠ tn2) : ∃ Kt, (fam (fun j => tyW G (ax (40 + j)) (tq j)) 4).Perm (tyW G (ax (40 + tn)) (tq tn) ++ (tyW G (ax (40 + tn2)) (tq tn2) ++ Kt)) ∧ ∀ r, (fam (fun j => tyW G (ax (40 + j)) ((fun j => if j = tn2 then some r else tq j) j)) 4).Perm (tyW G (ax (40 + tn)) (tq tn) ++ (tyW G (ax (40 + tn2)) (some r) ++ Kt)) := by
  obtain ⟨Kt, h⟩ := fam_out2 (fun j => tyW G (ax (40 + j)) (tq j)) 4 tn tn2 htn htn2 hne
  refine ⟨Kt, h _ (fun _ _ _ _ => rfl), fun r => ?_⟩
  have h2 := h (fun j => tyW G (ax (40 + j)) ((fun j => if j = tn2 then some r else tq j) j)) (fun j _ _ hj => by dsimp only; rw [if_neg hj])
  dsimp only at h2 ⊢
  rw [if_pos rfl, if_neg hne] at h2
  exact h2
theorem fam_mk (G : zG) (mq : Nat → Option zHo) {k : Nat} (hk : k < 3) : ∃ Kt, (fam (fun j => hoW G (mq j)) 3).Perm (hoW G (mq k) ++ Kt) ∧ ∀ r, (fam (fun j => hoW G ((fun j => if j = k then some r else mq j) j)) 3).Perm (hoW G (some r) ++ Kt) := by
  obtain ⟨Kt, h⟩ := fam_out (fun j => hoW G (mq j)) 3 k hk
  refine ⟨Kt, h _ (fun _ _ _ => rfl), fun r => ?_⟩
  have h2 := h (fun j => hoW G ((fun j => if j = k then some r else mq j) j)) (fun j _ hj => by dsimp only; rw [if_neg hj])
  dsimp only at h2 ⊢
  rw [if_pos rfl] at h2
  exact h2
theorem mk_xm {xm : Nat → Option Nat} {k : Nat} (r : zHo) (h : ∀ j, j < 3 → xm j = (mq j).map Prod.fst) : ∀ j, j < 3 → va_up xm k (some r.1) j = ((fun j => if j = k then some r else mq j) j).map Prod.fst := by
  intro j hj
  dsimp only
  unfold va_up
  by_cases c : j = k
  · rw [if_pos c, if_pos c]; rfl
  · rw [if_neg c, if_neg c]; exact h j hj
theorem mk_xm2 {xm : Nat → Option Nat} {k : Nat} {q : zHo} (r : zHo) (h : ∀ j, j < 3 → xm j = (mq j).map Prod.fst) (hq : mq k = some q) (e : r.1 = q.1) : ∀ j, j < 3 → xm j = ((fun j => if j = k then some r else mq j) j).map Prod.fst := by
  intro j hj
  dsimp only
  by_cases c : j = k
  · rw [if_pos c, h j hj, c, hq]
    show some q.1 = some r.1
    rw [e]
  · rw [if_neg c]; exact h j hj
theorem flT {M : List va_W} {K y : va_W} (h : M.flatten = y) : (M ++ [K]).flatten = y ++ K := by rw [List.flatten_append, h, fl1]
theorem vp_updL_ne {f : Nat → Int64} {k j : Nat} {v : Int64} (h : ¬ j = k) : vp_updL f k v j = f j := by
  unfold vp_updL
  rw [if_neg h]
theorem tbad {y1 y2 y3 : Int32} (h : y1 < 0 ∨ 4 ≤ y1 ∨ y2 < 0 ∨ 3 < y2 ∨ 60 < y3) : y1 < 0 ∨ 4 ≤ y1 ∨ y2 < 0 ∨ 3 < y2 ∨ y3 < 0 ∨ 60 < y3 := by
  rcases h with h | h | h | h | h
  · exact Or.inl h
  · exact Or.inr (Or.inl h)
  · exact Or.inr (Or.inr (Or.inl h))
  · exact Or.inr (Or.inr (Or.inr (Or.inl h)))
  · exact Or.inr (Or.inr (Or.inr (Or.inr (Or.inr h))))
theorem sort_n {q : Int32} (h : ¬ (q < 0 ∨ 3 < q)) : ∃ n : Nat, n ≤ 3 ∧ q = nI n :=
  ⟨q.toNatClampNeg, z_ngt 3 (by decide) (fun z => h (Or.inl z)) (fun z => h (Or.inr z)), z_nn (fun z => h (Or.inl z))⟩
theorem many_n {q : Int32} (h0 : ¬ q < 0) (h : ¬ 60 < q) : ∃ n : Nat, n ≤ 60 ∧ q = nI n := ⟨q.toNatClampNeg, z_ngt 60 (by decide) h0 h, z_nn h0⟩
theorem ty_any (G : zG) (ta : Nat) (c : Option zTy) : ∃ (cq : Option Nat) (M9 : va_W), (tyW G ta c).Perm (xY_ G ta cq ++ M9) := by
  cases c with
  | none => exact ⟨none, [], List.Perm.refl _⟩
  | some r => exact ⟨some r.1, jW_ G r.2.1 r.1 r.2.2.1 r.2.2.2, List.Perm.refl _⟩
theorem big_n {q : Int32} (h : ¬ q < 0) : ∃ n : Nat, n < 2 ^ 31 ∧ q = nI n := by
  refine ⟨q.toNatClampNeg, ?_, z_nn h⟩
  have h1 := Int32.toInt_lt q
  show q.toInt.toNat < 2 ^ 31
  omega
theorem pour_n {y1 y2 y3 y4 y5 : Int32} (h : ¬ (y1 < 0 ∨ 4 ≤ y1 ∨ y3 < 0 ∨ 4 ≤ y3 ∨ y2 < 0 ∨ y4 < 0 ∨ y5 < 0)) : ∃ tn tn2 pl al m9 : Nat, tn < 4 ∧ tn2 < 4 ∧ pl < 2 ^ 31 ∧ al < 2 ^ 31 ∧ m9 < 2 ^ 31 ∧ y1 = nI tn ∧ y2 = nI pl ∧ y3 = nI tn2 ∧ y4 = nI al ∧ y5 = nI m9 := by
  obtain ⟨tn, h1, e1⟩ := isTray_n (t := y1) (fun q => h (q.elim Or.inl (fun q => Or.inr (Or.inl q))))
  obtain ⟨tn2, h2, e2⟩ := isTray_n (t := y3) (fun q => h (Or.inr (Or.inr (q.elim Or.inl (fun q => Or.inr (Or.inl q))))))
  obtain ⟨pl, h3, e3⟩ := big_n (q := y2) (fun q => h (Or.inr (Or.inr (Or.inr (Or.inr (Or.inl q))))))
  obtain ⟨al, h4, e4⟩ := big_n (q := y4) (fun q => h (Or.inr (Or.inr (Or.inr (Or.inr (Or.inr (Or.inl q)))))))
  obtain ⟨m9, h5, e5⟩ := big_n (q := y5) (fun q => h (Or.inr (Or.inr (Or.inr (Or.inr (Or.inr (Or.inr q)))))))
  exact ⟨tn, tn2, pl, al, m9, h1, h2, h3, h4, h5, e1, e3, e2, e4, e5⟩
end R53
