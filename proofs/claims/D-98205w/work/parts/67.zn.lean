/-! zn: methods that make objects -/
theorem zRA_uniq {U : State} {ty : FieldType} {cA cB : ClassId} (h1 : va_RA U cA ty) (h2 : va_RA U cB ty) : cA = cB := by
  have f1 : U.vm.findClass ("[" ++ ty.toString) = some cA := by
    cases ty with
    | object C => obtain ⟨_, _, _, _, _, e⟩ := h1; exact e
    | _ => exact h1
  have f2 : U.vm.findClass ("[" ++ ty.toString) = some cB := by
    cases ty with
    | object C => obtain ⟨_, _, _, _, _, e⟩ := h2; exact e
    | _ => exact h2
  exact Option.some.inj (f1.symm.trans f2)
/-- the addresses of what was made, by their order -/
def zAd (L : List Nat) : Nat → Nat := fun i => L.getD i 0
theorem zr_entW {l : Launch} {G : zG} {sz : Nat} {av : List Value} {ws : va_W} {wsu : (Nat → Nat) → va_W} {F : (Nat → Nat) → Prop} {r : (Nat → Nat) → Option Value} {y : MethodName} {cc : ByteArray} {maxL mc ms : Nat} {ret : Option FieldType} {rm : Room} (hy : plainName y.cls = true) (hlen : (lg_sl av).length ≤ maxL)
    (body : ∀ (p : Program) (e : Env) (s : State) (m : MethodId) (below : List Frame) (meth : Method) (c : Code), zC p s m meth c cc maxL ret y av.toArray → ∀ ls : Array Slot, lv_has ls maxL (lv_args 0 av) → va_P G.1 zcl ws s.heap → KK G s → ∀ A : Nat → Prop, ZE G A s s.heap → (∀ q : Nat, s.heap.size ≤ q → A q) → va_D A ws → va_S A s.heap s.heap [] → W p l e rm s m av.toArray below meth c s.heap [] 0 0 (MQ below (zQe G F r wsu A) av.toArray s mc ms A) (F0 m 0 ls [])) :
    Met l y (ws_ y cc maxL ret) rm (zPm G sz av ws) (zQe G F r wsu (va_A ws sz)) mc ms (va_A ws sz) := by
  refine Met.ofW (cc := cc) (maxL := maxL) (ret := ret) hy rfl ?_
  intro p e s m args below meth c s₁ B hml hv
  obtain ⟨rfl, hsz, hP, hK, hD, hE⟩ := hv
  have hts := atoms_spec (ws := ws_ y cc maxL ret) B.pre
  have hl := lv_entry av (n := maxL) hlen
  rw [lg_entry_eq]
  subst hsz
  exact body p e s m below meth c ⟨B.exec, B.bytes, B.returns, hml, findClass_of_methodNamed B.named, fun w h => hts w (List.mem_cons_of_mem _ h), B.notSynchronized, (name_of_methodNamed B.named B.method).1⟩ _ hl hP hK _ hE (fun q h => Or.inr h) (hD.self (sz := s.heap.size)) va_S.rf
section ZRN
variable {p : Program} {l : Launch} {e : Env} {R : Room} {s : State} {m : MethodId} {args : Array Value} {below : List Frame} {meth : Method} {c : Code} {H : Heap} {locs : List Loc} {cells slots : Nat} {Q : State → Prop}
variable {cc : ByteArray} {pc : Nat} {ls : Array Slot} {rest st : List Value} {G : zG} {A : Nat → Prop} {H0 : Heap} {ws ws' : va_W}
theorem zr_newa {atype : ArrayType} {ty : FieldType} (i : Nat) (hx : p.tables.exec = Jvm.exec) (hb : c.code = cc) (harr : (Cond.arrayClass (newarray.typeOf atype)).before args s = true) (hty : newarray.typeOf atype = ty) (hi : (zty G)[i]? = some (G.2 i, ty)) (hK : KK G s) (hP : va_P G.1 zcl ws H) (hD : va_D A ws) (hS : va_S A H0 H locs) (hA : ∀ q : Nat, H0.size ≤ q → A q)
    {n : Int32} {N' : Nat} {a0 : vp_A} (ha : ∀ cA : ClassId, vp_cell cA a0 = arrV cA N' (fun _ => defaultValue ty)) (hn : ¬ n < 0) (hN : n.toNatClampNeg = N') (hbytes : N' * componentBytes ty ≤ 536870912) (hcells : cells + 1 ≤ R.cells) (hslots : slots + N' ≤ R.slots) (hdg : decode cc pc = .ok (.newarray atype, 2))
    (kk : ∀ (q : Nat) (H1 : Heap), va_P G.1 zcl (ws ++ [(q, .inl (G.2 i, a0))]) H1 → va_D A (ws ++ [(q, .inl (G.2 i, a0))]) → va_S A H0 H1 locs → W p l e R s m args below meth c H1 locs (cells + 1) (slots + N') Q (F0 m (pc + 2) ls (.ref q :: rest))) : W p l e R s m args below meth c H locs cells slots Q (F0 m pc ls (.int n :: rest)) := by
  refine va_newa hx hb harr hty hK.1 hP hD hS hA ha hn hN hbytes hcells hslots hdg (fun q cA H1 hK1 hP1 hD1 hS1 => ?_)
  have e : cA = G.2 i := zRA_uniq (hK1.2 8 (cA, ty) rfl).2 (hK.1.2 i _ hi).2
  subst e
  exact kk q H1 hP1 hD1 hS1
theorem zr_newq {own C : String} {index : Nat} (i : Nat) (hx : p.tables.exec = Jvm.exec) (hb : c.code = cc) (hown : s.vm.findClass own = some m.cls) (hclink : (Cond.classLink own index C).before args s = true) (hover : va_AO C s) (hi : (zty G)[i]? = some (G.2 i, .object C)) (hK : KK G s) (hP : va_P G.1 zcl ws H) (hD : va_D A ws) (hS : va_S A H0 H locs) (hA : ∀ q : Nat, H0.size ≤ q → A q)
    {n : Int32} {N' : Nat} (hn : ¬ n < 0) (hN : n.toNatClampNeg = N') (hbytes : N' * 4 ≤ 536870912) (hcells : cells + 1 ≤ R.cells) (hslots : slots + N' ≤ R.slots) (hdg : decode cc pc = .ok (.anewarray index, 3))
    (kk : ∀ (q : Nat) (H1 : Heap), va_P G.1 zcl (ws ++ [(q, .inl (G.2 i, N', .inr (.inr (.inr (.inr (fun _ => none))))))]) H1 → va_D A (ws ++ [(q, .inl (G.2 i, N', .inr (.inr (.inr (.inr (fun _ => none))))))]) → va_S A H0 H1 locs → W p l e R s m args below meth c H1 locs (cells + 1) (slots + N') Q (F0 m (pc + 3) ls (.ref q :: rest))) : W p l e R s m args below meth c H locs cells slots Q (F0 m pc ls (.int n :: rest)) := by
  refine va_newq hx hb hown hclink hover hK.1 hP hD hS hA hn hN hbytes hcells hslots hdg (fun q cA H1 hK1 hP1 hD1 hS1 => ?_)
  have e : cA = G.2 i := zRA_uniq (hK1.2 8 (cA, .object C) rfl).2 (hK.1.2 i _ hi).2
  subst e
  exact kk q H1 hP1 hD1 hS1
/-- ends of methods that make -/
theorem zr_nv {F : (Nat → Nat) → Prop} {r : (Nat → Nat) → Option Value} {wsu : (Nat → Nat) → va_W} (u : Nat → Nat) (hx : p.tables.exec = Jvm.exec) (hb : c.code = cc) (hr : meth.sig.returnType = none) (hlocks : meth.locks = false) (hP : va_P G.1 zcl ws H) (hD : va_D A ws) (hS : va_S A s.heap H locs) (d : decode cc pc = .ok (.return_, 1)) (h : r u = none) (hw : wsu u = ws) (hF : F u) : W p l e R s m args below meth c H locs cells slots (MQ below (zQe G F r wsu A) args s cells slots A) (F0 m pc ls []) := by
  subst hw
  exact W.vret hx hb hr (fun t ht _ => ⟨⟨u, by rw [h], hF, by rw [ht]; exact hP, hD⟩, hS.F ht⟩) hS.2.2 d hlocks
theorem zr_na {F : (Nat → Nat) → Prop} {r : (Nat → Nat) → Option Value} {wsu : (Nat → Nat) → va_W} {v : Nat} {ty : String} (u : Nat → Nat) (hx : p.tables.exec = Jvm.exec) (hb : c.code = cc) (hr : meth.sig.returnType = some (.object ty)) (hlocks : meth.locks = false) (hP : va_P G.1 zcl ws H) (hD : va_D A ws) (hS : va_S A s.heap H locs) (d : decode cc pc = .ok (.areturn, 1)) (h : r u = some (.ref v)) (hw : wsu u = ws) (hF : F u) : W p l e R s m args below meth c H locs cells slots (MQ below (zQe G F r wsu A) args s cells slots A) (F0 m pc ls [.ref v]) := by
  subst hw
  exact W.aret hx hb hr (Or.inl ⟨_, rfl⟩) (Or.inr ⟨_, rfl⟩) (fun t ht _ => ⟨⟨u, by rw [h], hF, by rw [ht]; exact hP, hD⟩, hS.F ht⟩) hS.2.2 d hlocks
theorem zr_ni {F : (Nat → Nat) → Prop} {r : (Nat → Nat) → Option Value} {wsu : (Nat → Nat) → va_W} {v : Int32} (u : Nat → Nat) (hx : p.tables.exec = Jvm.exec) (hb : c.code = cc) (hr : meth.sig.returnType = some .int) (hlocks : meth.locks = false) (hP : va_P G.1 zcl ws H) (hD : va_D A ws) (hS : va_S A s.heap H locs) (d : decode cc pc = .ok (.ireturn, 1)) (h : r u = some (.int v)) (hw : wsu u = ws) (hF : F u) : W p l e R s m args below meth c H locs cells slots (MQ below (zQe G F r wsu A) args s cells slots A) (F0 m pc ls [.int v]) := by
  subst hw
  exact W.iret hx hb hr (fun t ht _ => ⟨⟨u, by rw [h], hF, by rw [ht]; exact hP, hD⟩, hS.F ht⟩) hS.2.2 d hlocks
variable {Ts : List Cond} {wsy : List Cond} {bytes : ByteArray} {nL maxL index n mc ms : Nat} {own : String} {y : MethodName} {ret : Option FieldType} {rm : Room} {As : List Value}
/-- calls of methods that make -/
theorem zr_muNV {τ : Type} {F : τ} {ff : τ → (Nat → Nat) → Prop} {rr : τ → (Nat → Nat) → Option Value} {w0 wr : va_W} {w1 wn : τ → (Nat → Nat) → va_W} {b : Nat} {fs : List Value} {q : vw_C} (h1 : ws.Perm (wr ++ w0)) (h2 : ∀ t u, (wr ++ w1 t u).Perm (wn t u)) (C0 : CallFix p m c cc nL s args Ts own) (hM : Met l y wsy rm (zPm G H.size (.ref b :: As) w0) (zQe G (ff F) (rr F) (w1 F) (va_A w0 H.size)) mc ms (va_A w0 H.size)) (cw : CallW R s args own q.1 index y bytes maxL ret wsy rm mc ms n) (hP : va_P G.1 zcl ws H) (hD : va_D A ws) (hS : va_S A s.heap H locs) (hA : ∀ q : Nat, s.heap.size ≤ q → A q) (hK : KK G s) (hE : ZE G A s s.heap) (ci : Nat) (hc : zcl[ci]? = some q) (he : w0[0]? = some (b, .inr (ci, fs))) (hn : As.length = n) (hl : ls.size = nL) (hst : st = As.reverse ++ .ref b :: rest) (hW : (rest.map fun v => v.category).sum ≤ 8) (d : decode cc pc = .ok (.invokevirtual index, 3)) (hf : cells + mc ≤ R.cells ∧ slots + ms ≤ R.slots)
    (k : ∀ (t : τ) (u : Nat → Nat), F = t → ff t u → ∀ (H1 : Heap) (locs1 : List Loc), va_P G.1 zcl (wn t u) H1 → va_D A (wn t u) → va_S A s.heap H1 locs1 → H.size ≤ H1.size → W p l e R s m args below meth c H1 locs1 (cells + mc) (slots + ms) Q (F0 m (pc + 3) ls ((rr t u).toList ++ rest))) : W p l e R s m args below meth c H locs cells slots Q (F0 m pc ls st) :=
  have hP0 : va_P G.1 zcl w0 H := zP_right (zP_perm h1 hP)
  have hD0 : va_D A w0 := zD_right (zD_perm h1 hD)
  zr_muE h1 (h2 F) (va_runV C0 hM cw ⟨zPm_blind, va_recv hK.1 hP0 hc he, fun U hU hW => ⟨rfl, by rw [hU], by rw [hU]; exact hP0, zKK_warm hW hK, hD0.weaken (fun _ _ _ _ => trivial), zE_m hE hD0 hS hA hW hU⟩⟩ rfl hn hl hst (lv_room (pc := pc) (ls := ls) (rest := st) hW) d hf) hP hD hS hA (fun u => k F u rfl)
theorem zr_muNI {τ : Type} {F : τ} {ff : τ → (Nat → Nat) → Prop} {w0 wr : va_W} {w1 wn : τ → (Nat → Nat) → va_W} {b : Nat} (h1 : ws.Perm (wr ++ w0)) (h2 : ∀ t u, (wr ++ w1 t u).Perm (wn t u)) (C0 : CallFix p m c cc nL s args Ts own) (hM : Met l y wsy rm (zPm G H.size (.ref b :: As) w0) (zQe G (ff F) (fun _ => none) (w1 F) (va_A w0 H.size)) mc ms (va_A w0 H.size)) (cw : CallB R s args own index y bytes maxL none wsy rm mc ms n ∧ y.name = "<init>" ∧ (Cond.instanceMethod y).before args s = true) (hP : va_P G.1 zcl ws H) (hD : va_D A ws) (hS : va_S A s.heap H locs) (hA : ∀ q : Nat, s.heap.size ≤ q → A q) (hK : KK G s) (hE : ZE G A s s.heap) (hn : As.length = n) (hl : ls.size = nL) (hst : st = As.reverse ++ .ref b :: rest) (hW : (rest.map fun v => v.category).sum ≤ 8) (d : decode cc pc = .ok (.invokespecial index, 3)) (hf : cells + mc ≤ R.cells ∧ slots + ms ≤ R.slots)
    (k : ∀ (t : τ) (u : Nat → Nat), F = t → ff t u → ∀ (H1 : Heap) (locs1 : List Loc), va_P G.1 zcl (wn t u) H1 → va_D A (wn t u) → va_S A s.heap H1 locs1 → H.size ≤ H1.size → W p l e R s m args below meth c H1 locs1 (cells + mc) (slots + ms) Q (F0 m (pc + 3) ls rest)) : W p l e R s m args below meth c H locs cells slots Q (F0 m pc ls st) :=
  have hP0 : va_P G.1 zcl w0 H := zP_right (zP_perm h1 hP)
  have hD0 : va_D A w0 := zD_right (zD_perm h1 hD)
  zr_muE (r := fun _ => none) h1 (h2 F) (va_runI C0 hM cw ⟨zPm_blind, fun U hU hW => ⟨rfl, by rw [hU], by rw [hU]; exact hP0, zKK_warm hW hK, hD0.weaken (fun _ _ _ _ => trivial), zE_m hE hD0 hS hA hW hU⟩⟩ rfl hn hl hst (lv_room (pc := pc) (ls := ls) (rest := st) hW) d hf) hP hD hS hA (fun u => k F u rfl)
theorem zr_muNIN {τ : Type} {F : τ} {host : String} {ff : τ → (Nat → Nat) → Prop} {w0 wr : va_W} {w1 wn : τ → (Nat → Nat) → va_W} {b : Nat} (h1 : ws.Perm (wr ++ w0)) (h2 : ∀ t u, (wr ++ w1 t u).Perm (wn t u)) (C0 : CallFix p m c cc nL s args Ts own) (hM : Met l y wsy rm (zPm G H.size (.ref b :: As) w0) (zQe G (ff F) (fun _ => none) (w1 F) (va_A w0 H.size)) mc ms (va_A w0 H.size)) (cw : va_CN R s args own index y host bytes maxL none wsy rm mc ms n ∧ y.name = "<init>" ∧ (Cond.instanceMethod y).before args s = true) (hP : va_P G.1 zcl ws H) (hD : va_D A ws) (hS : va_S A s.heap H locs) (hA : ∀ q : Nat, s.heap.size ≤ q → A q) (hK : KK G s) (hE : ZE G A s s.heap) (hn : As.length = n) (hl : ls.size = nL) (hst : st = As.reverse ++ .ref b :: rest) (hW : (rest.map fun v => v.category).sum ≤ 8) (d : decode cc pc = .ok (.invokespecial index, 3)) (hf : cells + mc ≤ R.cells ∧ slots + ms ≤ R.slots)
    (k : ∀ (t : τ) (u : Nat → Nat), F = t → ff t u → ∀ (H1 : Heap) (locs1 : List Loc), va_P G.1 zcl (wn t u) H1 → va_D A (wn t u) → va_S A s.heap H1 locs1 → H.size ≤ H1.size → W p l e R s m args below meth c H1 locs1 (cells + mc) (slots + ms) Q (F0 m (pc + 3) ls rest)) : W p l e R s m args below meth c H locs cells slots Q (F0 m pc ls st) :=
  have hP0 : va_P G.1 zcl w0 H := zP_right (zP_perm h1 hP)
  have hD0 : va_D A w0 := zD_right (zD_perm h1 hD)
  zr_muE (r := fun _ => none) h1 (h2 F) (va_runIN C0 hM cw ⟨zPm_blind, fun U hU hW => ⟨rfl, by rw [hU], by rw [hU]; exact hP0, zKK_warm hW hK, hD0.weaken (fun _ _ _ _ => trivial), zE_m hE hD0 hS hA hW hU⟩⟩ rfl hn hl hst (lv_room (pc := pc) (ls := ls) (rest := st) hW) d hf) hP hD hS hA (fun u => k F u rfl)
end ZRN
