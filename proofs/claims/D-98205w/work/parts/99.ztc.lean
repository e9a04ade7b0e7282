/-! zt: rows of trays; what the machine throws; methods with handlers -/
/-- the end of a method that throws a new object of the machine's -/
def zXt (G : zG) (E : String) (ws : va_W) (A : Nat → Prop) : String → Addr → State → State → Prop := fun E' _ st t => (E' = E ∧ va_P G.1 zcl ws t.heap ∧ va_D A ws) ∧ va_F A st t
def zNoX : String → Addr → State → State → Prop := fun _ _ _ _ => False
def zNoQ : Array Value → State → Outcome → State → Prop := fun _ _ _ _ => False
theorem zr_entT {l : Launch} {G : zG} {sz : Nat} {av : List Value} {ws ws' : va_W} {E : String} {y : MethodName} {cc : ByteArray} {maxL mc ms : Nat} {ret : Option FieldType} {rm : Room} (hy : plainName y.cls = true) (hlen : (lg_sl av).length ≤ maxL)
    (body : ∀ (p : Program) (e : Env) (s : State) (m : MethodId) (below : List Frame) (meth : Method) (c : Code), zC p s m meth c cc maxL ret y av.toArray → (∀ x ∈ c.exceptionTable.toList, False) → ∀ ls : Array Slot, lv_has ls maxL (lv_args 0 av) → va_P G.1 zcl ws s.heap → KK G s → ∀ A : Nat → Prop, ZE G A s s.heap → (∀ q : Nat, s.heap.size ≤ q → A q) → va_D A ws → va_S A s.heap s.heap [] → W p l e rm s m av.toArray below meth c s.heap [] 0 0 (vx_MQ below zNoQ (zXt G E ws' A) av.toArray s mc ms A) (F0 m 0 ls [])) :
    vx_Met l y (ws_ y cc maxL ret) rm (zPm G sz av ws) zNoQ (zXt G E ws' (va_A ws sz)) mc ms (va_A ws sz) := by
  refine vx_ofW (cc := cc) (maxL := maxL) (ret := ret) hy rfl ?_
  intro p e s m args below meth c s₁ B hml hout hv
  obtain ⟨rfl, hsz, hP, hK, hD, hE⟩ := hv
  have hts := atoms_spec (ws := ws_ y cc maxL ret) B.pre
  have hl := lv_entry av (n := maxL) hlen
  rw [lg_entry_eq]
  subst hsz
  exact body p e s m below meth c ⟨B.exec, B.bytes, B.returns, hml, findClass_of_methodNamed B.named, fun w h => hts w (List.mem_cons_of_mem _ h), B.notSynchronized, (name_of_methodNamed B.named B.method).1⟩ hout _ hl hP hK _ hE (fun q h => Or.inr h) (hD.self (sz := s.heap.size)) va_S.rf
/-- a method with handlers, which lets nothing out -/
theorem zr_entH {l : Launch} {G : zG} {sz : Nat} {av : List Value} {ws : va_W} {Qc : (Nat → Prop) → Array Value → State → Outcome → State → Prop} {y : MethodName} {cc : ByteArray} {maxL mc ms : Nat} {ret : Option FieldType} {rm : Room} {hh : List (Nat × Nat × Nat × Nat)} (hy : plainName y.cls = true) (hlen : (lg_sl av).length ≤ maxL)
    (body : ∀ (p : Program) (e : Env) (s : State) (m : MethodId) (below : List Frame) (meth : Method) (c : Code), zC p s m meth c cc maxL ret y av.toArray → c.exceptionTable.toList = tableOf hh → ∀ ls : Array Slot, lv_has ls maxL (lv_args 0 av) → va_P G.1 zcl ws s.heap → KK G s → ∀ A : Nat → Prop, ZE G A s s.heap → (∀ q : Nat, s.heap.size ≤ q → A q) → va_D A ws → va_S A s.heap s.heap [] → W p l e rm s m av.toArray below meth c s.heap [] 0 0 (vx_MQ below (Qc A) zNoX av.toArray s mc ms A) (F0 m 0 ls [])) :
    vx_Met l y (wsW_ y cc maxL ret hh) rm (zPm G sz av ws) (Qc (va_A ws sz)) zNoX mc ms (va_A ws sz) := by
  refine vx_ofWH (cc := cc) (maxL := maxL) (ret := ret) (hh := hh) hy rfl ?_
  intro p e s m args below meth c s₁ B hml hv
  obtain ⟨rfl, hsz, hP, hK, hD, hE⟩ := hv
  have hts := atoms_spec (ws := wsW_ y cc maxL ret hh) B.pre
  have htab := vx_table (x := y) B (hts _ List.mem_cons_self)
  have hl := lv_entry av (n := maxL) hlen
  rw [lg_entry_eq]
  subst hsz
  exact body p e s m below meth c ⟨B.exec, B.bytes, B.returns, hml, findClass_of_methodNamed B.named, fun w h => hts w (List.mem_cons_of_mem _ h), B.notSynchronized, (name_of_methodNamed B.named B.method).1⟩ htab _ hl hP hK _ hE (fun q h => Or.inr h) (hD.self (sz := s.heap.size)) va_S.rf
theorem zP_keep {G : zG} {ws : va_W} {H H1 : Heap} (hP : va_P G.1 zcl ws H) (h : ∀ q : Nat, q < H.size → H1[q]? = H[q]?) : va_P G.1 zcl ws H1 := fun k q hk => (hP k q hk).kept (h _ (hP k q hk).lt)
section ZRT
variable {p : Program} {l : Launch} {e : Env} {R : Room} {s : State} {m : MethodId} {args : Array Value} {below : List Frame} {meth : Method} {c : Code} {H : Heap} {locs : List Loc} {cells slots : Nat} {Q : State → Prop}
variable {cc : ByteArray} {pc : Nat} {ls : Array Slot} {rest st : List Value} {G : zG} {A : Nat → Prop} {H0 : Heap} {ws ws' : va_W}
variable {Ts : List Cond} {wsy : List Cond} {bytes : ByteArray} {nL maxL index n mc ms : Nat} {own : String} {y : MethodName} {ret : Option FieldType} {rm : Room} {As : List Value} {a : Array Value}
/-- an array's class, by its component -/
theorem zr_arr {q : Nat} {cA : ClassId} {x : vp_A} {nm : String} (hK : KK G s) (hP : va_P G.1 zcl ws H) (q0 k : Nat) (ty : FieldType) (ha : ws[q0]? = some (q, .inl (cA, x))) (hk : (zty G)[k]? = some (cA, ty)) (hp : refKind ty = false) (hn : "[" ++ ty.toString = nm) : ∃ cell : Cell, H[q]? = some cell ∧ cell.vm.isStatics = false ∧ s.vm.findClass nm = some cell.cls := by
  have hvm0 : (vp_cell cA x).vm = .none := by
    obtain ⟨n, f | f | f | f | f⟩ := x <;> rfl
  have hcl0 : (vp_cell cA x).cls = cA := by
    obtain ⟨n, f | f | f | f | f⟩ := x <;> rfl
  have h := (hK.1.2 k _ hk).2
  have h2 : s.vm.findClass ("[" ++ ty.toString) = some cA := by
    cases ty with
    | object C => simp [refKind] at hp
    | _ => exact h
  exact ⟨_, hP q0 _ ha, by rw [hvm0]; rfl, by rw [← hn, hcl0]; exact h2⟩
theorem zr_sald (k : Nat) {i v : Int32} {q n : Nat} {cA : ClassId} {f : Nat → Int32} (hx : p.tables.exec = Jvm.exec) (hb : c.code = cc) (hK : KK G s) (hP : va_P G.1 zcl ws H) (q0 : Nat) (ha : ws[q0]? = some (q, .inl (cA, n, .inl f))) (ht : cA = G.2 3) (hn : n < 2 ^ 31) (hk : i = nI k) (hlt : k < n) (hv : f k = v) (d : decode cc pc = .ok (.saload, 1))
    (kk : W p l e R s m args below meth c H locs cells slots Q (F0 m (pc + 1) ls (.int v :: rest))) : W p l e R s m args below meth c H locs cells slots Q (F0 m pc ls (.int i :: .ref q :: rest)) := by
  subst hv; subst ht
  refine va_sald hx hb hK.1 hP q0 3 ha rfl (z_in hk hlt hn) d ?_
  rw [hk, nI_clamp (Nat.lt_trans hlt hn)]
  exact kk
theorem zr_sast (k : Nat) {i x : Int32} {q n : Nat} {cA : ClassId} {f : Nat → Int32} (hx : p.tables.exec = Jvm.exec) (hb : c.code = cc) (hK : KK G s) (hP : va_P G.1 zcl ws H) (hD : va_D A ws) (hS : va_S A H0 H locs) (q0 : Nat) (ha : ws[q0]? = some (q, .inl (cA, n, .inl f))) (ht : cA = G.2 3) (hn : n < 2 ^ 31) (hk : i = nI k) (hlt : k < n) (hw : ws.set q0 (q, .inl (cA, n, .inl (upd f k (vp_nar .short x)))) = ws') (d : decode cc pc = .ok (.sastore, 1))
    (kk : ∀ (H1 : Heap) (locs1 : List Loc), va_P G.1 zcl ws' H1 → va_D A ws' → va_S A H0 H1 locs1 → W p l e R s m args below meth c H1 locs1 cells slots Q (F0 m (pc + 1) ls rest)) : W p l e R s m args below meth c H locs cells slots Q (F0 m pc ls (.int x :: .int i :: .ref q :: rest)) := by
  subst ht
  refine va_sast hx hb hK.1 hP hD hS q0 3 ha rfl (z_in hk hlt hn) d ?_
  rw [hk, nI_clamp (Nat.lt_trans hlt hn), hw]
  exact kk
/-- static calls that change their world -/
theorem zr_muPS {τ : Type} {F : τ} {ff : τ → Prop} {rr : τ → Option Value} {w0 wr : va_W} {w1 wn : τ → va_W} (h1 : ws.Perm (wr ++ w0)) (h2 : ∀ t, (wr ++ w1 t).Perm (wn t)) (C0 : CallFix p m c cc nL s args Ts own) (hM : Met l y wsy rm (zPm G H.size As w0) (zQm G (ff F) (rr F) (w1 F) (va_A w0 H.size)) mc ms (va_A w0 H.size)) (cw : CallB R s args own index y bytes maxL ret wsy rm mc ms n ∧ (Cond.static y).before args s = true) (hP : va_P G.1 zcl ws H) (hD : va_D A ws) (hS : va_S A s.heap H locs) (hA : ∀ q : Nat, s.heap.size ≤ q → A q) (hK : KK G s) (hE : ZE G A s s.heap) (hn : As.length = n) (hl : ls.size = nL) (hst : st = As.reverse ++ rest) (hW : (rest.map fun v => v.category).sum ≤ 8) (d : decode cc pc = .ok (.invokestatic index, 3)) (hf : cells + mc ≤ R.cells ∧ slots + ms ≤ R.slots)
    (k : ∀ t : τ, F = t → ff t → ∀ (H1 : Heap) (locs1 : List Loc), va_P G.1 zcl (wn t) H1 → va_D A (wn t) → va_S A s.heap H1 locs1 → H.size ≤ H1.size → W p l e R s m args below meth c H1 locs1 (cells + mc) (slots + ms) Q (F0 m (pc + 3) ls ((rr t).toList ++ rest))) : W p l e R s m args below meth c H locs cells slots Q (F0 m pc ls st) :=
  have hP0 : va_P G.1 zcl w0 H := zP_right (zP_perm h1 hP)
  have hD0 : va_D A w0 := zD_right (zD_perm h1 hD)
  zr_muP h1 (h2 F) (va_runS C0 hM cw ⟨zPm_blind, fun U hU hW => ⟨rfl, by rw [hU], by rw [hU]; exact hP0, zKK_warm hW hK, hD0.weaken (fun _ _ _ _ => trivial), zE_m hE hD0 hS hA hW hU⟩⟩ rfl hn hl hst (lv_room (pc := pc) (ls := ls) (rest := st) hW) d hf) hP hD hS hA (k F rfl)
theorem zr_muNS {S : Type} {ff : S → Prop} {rr : S → Option Value} {w0 wr : va_W} {w1 wn : S → va_W} (h1 : ws.Perm (wr ++ w0)) (h2 : ∀ u, (wr ++ w1 u).Perm (wn u)) (C0 : CallFix p m c cc nL s args Ts own) (hM : Met l y wsy rm (zPm G H.size As w0) (zQe G ff rr w1 (va_A w0 H.size)) mc ms (va_A w0 H.size)) (cw : CallB R s args own index y bytes maxL ret wsy rm mc ms n ∧ (Cond.static y).before args s = true) (hP : va_P G.1 zcl ws H) (hD : va_D A ws) (hS : va_S A s.heap H locs) (hA : ∀ q : Nat, s.heap.size ≤ q → A q) (hK : KK G s) (hE : ZE G A s s.heap) (hn : As.length = n) (hl : ls.size = nL) (hst : st = As.reverse ++ rest) (hW : (rest.map fun v => v.category).sum ≤ 8) (d : decode cc pc = .ok (.invokestatic index, 3)) (hf : cells + mc ≤ R.cells ∧ slots + ms ≤ R.slots)
    (k : ∀ u : S, ff u → ∀ (H1 : Heap) (locs1 : List Loc), va_P G.1 zcl (wn u) H1 → va_D A (wn u) → va_S A s.heap H1 locs1 → H.size ≤ H1.size → W p l e R s m args below meth c H1 locs1 (cells + mc) (slots + ms) Q (F0 m (pc + 3) ls ((rr u).toList ++ rest))) : W p l e R s m args below meth c H locs cells slots Q (F0 m pc ls st) :=
  have hP0 : va_P G.1 zcl w0 H := zP_right (zP_perm h1 hP)
  have hD0 : va_D A w0 := zD_right (zD_perm h1 hD)
  zr_muE h1 h2 (va_runS C0 hM cw ⟨zPm_blind, fun U hU hW => ⟨rfl, by rw [hU], by rw [hU]; exact hP0, zKK_warm hW hK, hD0.weaken (fun _ _ _ _ => trivial), zE_m hE hD0 hS hA hW hU⟩⟩ rfl hn hl hst (lv_room (pc := pc) (ls := ls) (rest := st) hW) d hf) hP hD hS hA k
/-- a call that throws a new object -/
theorem zr_muT {E : String} {wr w0 w1 wn : va_W} (h1 : ws.Perm (wr ++ w0)) (h2 : (wr ++ w1).Perm wn) (hr : vx_Run p l e R s m args below meth c H locs cells slots mc ms (F0 m pc ls st) rest (zNoQ a) (zXt G E w1 (va_A w0 H.size)) (va_A w0 H.size)) (hP : va_P G.1 zcl ws H) (hD : va_D A ws) (hS : va_S A H0 H locs) (hA : ∀ q : Nat, H0.size ≤ q → A q)
    (kx : ∀ (q9 : Addr) (ce : Cell) (H1 : Heap) (locs1 : List Loc), H1[q9]? = some ce → ce.vm = .none → s.vm.findClass E = some ce.cls → va_P G.1 zcl wn H1 → va_D A wn → va_S A H0 H1 locs1 → H.size ≤ H1.size → vx_W p l e R s m args below meth c H1 locs1 (cells + mc) (slots + ms) Q (F0 m pc ls rest) q9) : W p l e R s m args below meth c H locs cells slots Q (F0 m pc ls st) := by
  have hP' := zP_perm h1 hP
  have hD' := zD_perm h1 hD
  have hAA := zAA hD' hS hA
  intro T hT X
  rcases hr T hT X with ⟨v, st₀, t, T', L, h0, X', hL, e1, e2, hq, stp⟩ | ⟨q, st₀, t, T', L, E', ce, h0, X', hL, e1, e2, ⟨⟨hE', hp, hd⟩, hz, hk⟩, hce, hcv, hcl, stp⟩
  · exact hq.elim
  · rw [h0] at hz hk
    obtain ⟨t2, a1, b1⟩ := kx q ce T'.heap (locs ++ L) (by rw [e1]; exact hce) hcv (by rw [← hE']; exact hcl) (zP_perm h2 (zj_P hP' hD' (fun q h1 h2 => by rw [e1]; exact hk q h1 h2) (by rw [e1]; exact hp))) (zD_perm h2 (zj_D hP' hD' hAA hd)) (zS_after hS hAA e1 hz hk hL) (by rw [e1]; exact hz) T' rfl X'
    exact ⟨t2, stp.trans a1, b1⟩
theorem zr_muTS {E : String} {wr w0 w1 wn : va_W} (h1 : ws.Perm (wr ++ w0)) (h2 : (wr ++ w1).Perm wn) (C0 : CallFix p m c cc nL s args Ts own) (hM : vx_Met l y wsy rm (zPm G H.size As w0) zNoQ (zXt G E w1 (va_A w0 H.size)) mc ms (va_A w0 H.size)) (cw : CallB R s args own index y bytes maxL ret wsy rm mc ms n ∧ (Cond.static y).before args s = true) (hP : va_P G.1 zcl ws H) (hD : va_D A ws) (hS : va_S A s.heap H locs) (hA : ∀ q : Nat, s.heap.size ≤ q → A q) (hK : KK G s) (hE : ZE G A s s.heap) (hn : As.length = n) (hl : ls.size = nL) (hst : st = As.reverse ++ rest) (hW : (rest.map fun v => v.category).sum ≤ 8) (d : decode cc pc = .ok (.invokestatic index, 3)) (hf : cells + mc ≤ R.cells ∧ slots + ms ≤ R.slots)
    (kx : ∀ (q9 : Addr) (ce : Cell) (H1 : Heap) (locs1 : List Loc), H1[q9]? = some ce → ce.vm = .none → s.vm.findClass E = some ce.cls → va_P G.1 zcl wn H1 → va_D A wn → va_S A s.heap H1 locs1 → H.size ≤ H1.size → vx_W p l e R s m args below meth c H1 locs1 (cells + mc) (slots + ms) Q (F0 m pc ls rest) q9) : W p l e R s m args below meth c H locs cells slots Q (F0 m pc ls st) :=
  have hP0 : va_P G.1 zcl w0 H := zP_right (zP_perm h1 hP)
  have hD0 : va_D A w0 := zD_right (zD_perm h1 hD)
  zr_muT h1 h2 (vx_runS C0 hM cw ⟨zPm_blind, fun U hU hW => ⟨rfl, by rw [hU], by rw [hU]; exact hP0, zKK_warm hW hK, hD0.weaken (fun _ _ _ _ => trivial), zE_m hE hD0 hS hA hW hU⟩⟩ rfl hn hl hst (lv_room (pc := pc) (ls := ls) (rest := st) hW) d hf) hP hD hS hA kx
/-- a call of a method with handlers -/
theorem zr_muH {F : Prop} {wr w0 w1 wn : va_W} {r : Option Value} (h1 : ws.Perm (wr ++ w0)) (h2 : (wr ++ w1).Perm wn) (hr : vx_Run p l e R s m args below meth c H locs cells slots mc ms (F0 m pc ls st) rest (zQm G F r w1 (va_A w0 H.size) a) zNoX (va_A w0 H.size)) (hP : va_P G.1 zcl ws H) (hD : va_D A ws) (hS : va_S A H0 H locs) (hA : ∀ q : Nat, H0.size ≤ q → A q)
    (k : F → ∀ (H1 : Heap) (locs1 : List Loc), va_P G.1 zcl wn H1 → va_D A wn → va_S A H0 H1 locs1 → H.size ≤ H1.size → W p l e R s m args below meth c H1 locs1 (cells + mc) (slots + ms) Q (F0 m (pc + 3) ls (r.toList ++ rest))) : W p l e R s m args below meth c H locs cells slots Q (F0 m pc ls st) := by
  have hP' := zP_perm h1 hP
  have hD' := zD_perm h1 hD
  have hAA := zAA hD' hS hA
  intro T hT X
  rcases hr T hT X with ⟨v, st₀, t, T', L, h0, X', hL, e1, e2, ⟨⟨hv, hF, hp, hd⟩, hz, hk⟩, stp⟩ | ⟨q, st₀, t, T', L, E', ce, h0, X', hL, e1, e2, hq, -⟩
  · cases hv
    rw [h0] at hz hk
    obtain ⟨t2, a1, b1⟩ := k hF T'.heap (locs ++ L) (zP_perm h2 (zj_P hP' hD' (fun q h1 h2 => by rw [e1]; exact hk q h1 h2) (by rw [e1]; exact hp))) (zD_perm h2 (zj_D hP' hD' hAA hd)) (zS_after hS hAA e1 hz hk hL) (by rw [e1]; exact hz) T' rfl X'
    exact ⟨t2, stp t2 a1, b1⟩
  · exact hq.elim
theorem zr_muHE {S : Type} {F : S → Prop} {wr w0 : va_W} {w1 wn : S → va_W} {r : S → Option Value} (h1 : ws.Perm (wr ++ w0)) (h2 : ∀ u, (wr ++ w1 u).Perm (wn u)) (hr : vx_Run p l e R s m args below meth c H locs cells slots mc ms (F0 m pc ls st) rest (zQe G F r w1 (va_A w0 H.size) a) zNoX (va_A w0 H.size)) (hP : va_P G.1 zcl ws H) (hD : va_D A ws) (hS : va_S A H0 H locs) (hA : ∀ q : Nat, H0.size ≤ q → A q)
    (k : ∀ u, F u → ∀ (H1 : Heap) (locs1 : List Loc), va_P G.1 zcl (wn u) H1 → va_D A (wn u) → va_S A H0 H1 locs1 → H.size ≤ H1.size → W p l e R s m args below meth c H1 locs1 (cells + mc) (slots + ms) Q (F0 m (pc + 3) ls ((r u).toList ++ rest))) : W p l e R s m args below meth c H locs cells slots Q (F0 m pc ls st) := by
  have hP' := zP_perm h1 hP
  have hD' := zD_perm h1 hD
  have hAA := zAA hD' hS hA
  intro T hT X
  rcases hr T hT X with ⟨v, st₀, t, T', L, h0, X', hL, e1, e2, ⟨⟨u, hv, hF, hp, hd⟩, hz, hk⟩, stp⟩ | ⟨q, st₀, t, T', L, E', ce, h0, X', hL, e1, e2, hq, -⟩
  · cases hv
    rw [h0] at hz hk
    obtain ⟨t2, a1, b1⟩ := k u hF T'.heap (locs ++ L) (zP_perm (h2 u) (zj_P hP' hD' (fun q h1 h2 => by rw [e1]; exact hk q h1 h2) (by rw [e1]; exact hp))) (zD_perm (h2 u) (zj_D hP' hD' hAA hd)) (zS_after hS hAA e1 hz hk hL) (by rw [e1]; exact hz) T' rfl X'
    exact ⟨t2, stp t2 a1, b1⟩
  · exact hq.elim
theorem zr_muHV {τ : Type} {F : τ} {ff : τ → Prop} {rr : τ → Option Value} {w0 wr : va_W} {w1 wn : τ → va_W} {b : Nat} {fs : List Value} {q : vw_C} {hh : List (Nat × Nat × Nat × Nat)} (h1 : ws.Perm (wr ++ w0)) (h2 : ∀ t, (wr ++ w1 t).Perm (wn t)) (C0 : CallFix p m c cc nL s args Ts own) (hM : vx_Met l y wsy rm (zPm G H.size (.ref b :: As) w0) (zQm G (ff F) (rr F) (w1 F) (va_A w0 H.size)) zNoX mc ms (va_A w0 H.size)) (cw : vx_CVW R s args own q.1 index y bytes maxL ret hh wsy rm mc ms n) (hP : va_P G.1 zcl ws H) (hD : va_D A ws) (hS : va_S A s.heap H locs) (hA : ∀ q : Nat, s.heap.size ≤ q → A q) (hK : KK G s) (hE : ZE G A s s.heap) (q0 ci : Nat) (hc : zcl[ci]? = some q) (he : w0[q0]? = some (b, .inr (ci, fs))) (hn : As.length = n) (hl : ls.size = nL) (hst : st = As.reverse ++ .ref b :: rest) (hW : (rest.map fun v => v.category).sum ≤ 8) (d : decode cc pc = .ok (.invokevirtual index, 3)) (hf : cells + mc ≤ R.cells ∧ slots + ms ≤ R.slots)
    (k : ∀ t : τ, F = t → ff t → ∀ (H1 : Heap) (locs1 : List Loc), va_P G.1 zcl (wn t) H1 → va_D A (wn t) → va_S A s.heap H1 locs1 → H.size ≤ H1.size → W p l e R s m args below meth c H1 locs1 (cells + mc) (slots + ms) Q (F0 m (pc + 3) ls ((rr t).toList ++ rest))) : W p l e R s m args below meth c H locs cells slots Q (F0 m pc ls st) :=
  have hP0 : va_P G.1 zcl w0 H := zP_right (zP_perm h1 hP)
  have hD0 : va_D A w0 := zD_right (zD_perm h1 hD)
  zr_muH h1 (h2 F) (vx_runVX C0 hM cw ⟨zPm_blind, va_recv hK.1 hP0 hc he, fun U hU hW => ⟨rfl, by rw [hU], by rw [hU]; exact hP0, zKK_warm hW hK, hD0.weaken (fun _ _ _ _ => trivial), zE_m hE hD0 hS hA hW hU⟩⟩ rfl hn hl hst (lv_room (pc := pc) (ls := ls) (rest := st) hW) d hf) hP hD hS hA (k F rfl)
theorem zr_muHEV {S : Type} {ff : S → Prop} {rr : S → Option Value} {w0 wr : va_W} {w1 wn : S → va_W} {b : Nat} {fs : List Value} {q : vw_C} {hh : List (Nat × Nat × Nat × Nat)} (h1 : ws.Perm (wr ++ w0)) (h2 : ∀ t, (wr ++ w1 t).Perm (wn t)) (C0 : CallFix p m c cc nL s args Ts own) (hM : vx_Met l y wsy rm (zPm G H.size (.ref b :: As) w0) (zQe G ff rr w1 (va_A w0 H.size)) zNoX mc ms (va_A w0 H.size)) (cw : vx_CVW R s args own q.1 index y bytes maxL ret hh wsy rm mc ms n) (hP : va_P G.1 zcl ws H) (hD : va_D A ws) (hS : va_S A s.heap H locs) (hA : ∀ q : Nat, s.heap.size ≤ q → A q) (hK : KK G s) (hE : ZE G A s s.heap) (q0 ci : Nat) (hc : zcl[ci]? = some q) (he : w0[q0]? = some (b, .inr (ci, fs))) (hn : As.length = n) (hl : ls.size = nL) (hst : st = As.reverse ++ .ref b :: rest) (hW : (rest.map fun v => v.category).sum ≤ 8) (d : decode cc pc = .ok (.invokevirtual index, 3)) (hf : cells + mc ≤ R.cells ∧ slots + ms ≤ R.slots)
    (k : ∀ u : S, ff u → ∀ (H1 : Heap) (locs1 : List Loc), va_P G.1 zcl (wn u) H1 → va_D A (wn u) → va_S A s.heap H1 locs1 → H.size ≤ H1.size → W p l e R s m args below meth c H1 locs1 (cells + mc) (slots + ms) Q (F0 m (pc + 3) ls ((rr u).toList ++ rest))) : W p l e R s m args below meth c H locs cells slots Q (F0 m pc ls st) :=
  have hP0 : va_P G.1 zcl w0 H := zP_right (zP_perm h1 hP)
  have hD0 : va_D A w0 := zD_right (zD_perm h1 hD)
  zr_muHE h1 h2 (vx_runVX C0 hM cw ⟨zPm_blind, va_recv hK.1 hP0 hc he, fun U hU hW => ⟨rfl, by rw [hU], by rw [hU]; exact hP0, zKK_warm hW hK, hD0.weaken (fun _ _ _ _ => trivial), zE_m hE hD0 hS hA hW hU⟩⟩ rfl hn hl hst (lv_room (pc := pc) (ls := ls) (rest := st) hW) d hf) hP hD hS hA k
/-- an object of the world is thrown, and caught here -/
theorem zr_catchK {own name E : String} {T : u_T} {N q : Nat} {fs : List Value} (hown : s.vm.findClass own = some m.cls) (pre : List ExceptionTableEntry) (x : ExceptionTableEntry) (suf : List ExceptionTableEntry) (hsplit : c.exceptionTable.toList = pre ++ x :: suf) (hpass : ∀ z ∈ pre, covers z pc = false ∨ (z.catchType ≠ 0 ∧ ∃ nm : String, (Cond.classLink own z.catchType nm).before args s = true ∧ va_Nc E nm s)) (hx : covers x pc = true) (h0 : x.catchType ≠ 0) (hlink : (Cond.classLink own x.catchType name).before args s = true) (hcast : (Cond.castable E name).before args s = true) (hK : KK G s) (hP : va_P G.1 zcl ws H) (k ci : Nat) (he : ws[k]? = some (q, .inr (ci, fs))) (hc : zcl[ci]? = some (E, T, N))
    (kk : W p l e R s m args below meth c H locs cells slots Q (F0 m x.handlerPc ls [.ref q])) : vx_W p l e R s m args below meth c H locs cells slots Q (F0 m pc ls rest) q := by
  obtain ⟨r, hr, cell, h1, h2, h3, -⟩ := hP k _ he
  cases Option.some.inj (hr.symm.trans hc)
  exact vx_catch hown pre x suf hsplit hpass hx h0 hlink hcast h1 h3 (by rw [h2]; exact (hK.1.1 ci _ hc).2.1) kk
/-- what the machine threw leaves the method -/
theorem zr_tend {E : String} {ce : Cell} {q : Addr} (hout : ∀ x ∈ c.exceptionTable.toList, False) (hlocks : meth.locks = false) (hce : H[q]? = some ce) (hcv : ce.vm = .none) (hcl : s.vm.findClass E = some ce.cls) (hP : va_P G.1 zcl ws H) (hD : va_D A ws) (hS : va_S A s.heap H locs) (hw : ws' = ws) : vx_W p l e R s m args below meth c H locs cells slots (vx_MQ below zNoQ (zXt G E ws' A) args s cells slots A) (F0 m pc ls rest) q := by
  subst hw
  exact vx_out (fun x hx => (hout x hx).elim) hlocks hce hcv hcl (fun t ht hW => ⟨⟨rfl, by rw [ht]; exact hP, hD⟩, hS.F ht⟩) hS.2.2 (Nat.le_refl _) (Nat.le_refl _)
/-- an index out of bounds -/
theorem zr_noteA {i : Int32} {n : Nat} {tx : String} (hx : p.tables.exec = Jvm.exec) (hlt : l.stackTraces = false) (hts : ∀ w ∈ lw_all, w.before args s = true) (hK : KK G s) (hE : ZE G A s s.heap) (hP : va_P G.1 zcl ws H) (hS : va_S A s.heap H locs) (hsz : ls.size = c.maxLocals) (hn : n < 2 ^ 31) (htx : tx = (toString "Index " ++ toString i ++ toString " out of bounds for length " ++ toString n : String)) (hRf : 7 < R.frames) (hRl : (rest.map fun v => v.category).sum + 10240 ≤ R.locals) (hRc : cells + 3 ≤ R.cells) (hRs : slots + 222 ≤ R.slots) (hlocks : meth.locks = false)
    (k : ∀ (q9 : Addr) (ce : Cell) (H1 : Heap), H1[q9]? = some ce → ce.vm = .none → s.vm.findClass "java/lang/ArrayIndexOutOfBoundsException" = some ce.cls → va_P G.1 zcl ws H1 → va_S A s.heap H1 locs → H.size ≤ H1.size → vx_W p l e R s m args below meth c H1 locs (cells + 3) (slots + 222) Q (F0 m pc ls rest) q9) :
    vx_Note p l e R s m args below meth c H locs cells slots Q (F0 m pc ls rest) "java/lang/ArrayIndexOutOfBoundsException" tx := by
  subst htx
  exact vx_vm hx hlt (nb := 212) (names := ["java/lang/IndexOutOfBoundsException", "java/lang/RuntimeException", "java/lang/Exception"]) (A := A) (by decide +kernel) (by decide +kernel) (by decide +kernel) (by decide +kernel) (zt_atA hts hK) zt_gdA hE.2.2.2.1 hE.2.2.2.2 hS hsz (index_text_modelled i n) (index_text_bytes i hn) (by decide) hRf hRl (by decide) hRc hRs hlocks (fun H1 q9 ce h1 h2 h3 h4 h5 h6 => k q9 ce H1 h4 h5 h6 (zP_keep hP h2) h3 h1)
/-- a negative size -/
theorem zr_noteN {n : Int32} {tx : String} (hx : p.tables.exec = Jvm.exec) (hlt : l.stackTraces = false) (hts : ∀ w ∈ lw_all, w.before args s = true) (hK : KK G s) (hE : ZE G A s s.heap) (hP : va_P G.1 zcl ws H) (hS : va_S A s.heap H locs) (hsz : ls.size = c.maxLocals) (hn : n < 0) (htx : tx = toString n) (hRf : 7 < R.frames) (hRl : (rest.map fun v => v.category).sum + 10240 ≤ R.locals) (hRc : cells + 3 ≤ R.cells) (hRs : slots + 222 ≤ R.slots) (hlocks : meth.locks = false)
    (k : ∀ (q9 : Addr) (ce : Cell) (H1 : Heap), H1[q9]? = some ce → ce.vm = .none → s.vm.findClass "java/lang/NegativeArraySizeException" = some ce.cls → va_P G.1 zcl ws H1 → va_S A s.heap H1 locs → H.size ≤ H1.size → vx_W p l e R s m args below meth c H1 locs (cells + 3) (slots + 222) Q (F0 m pc ls rest) q9) :
    vx_Note p l e R s m args below meth c H locs cells slots Q (F0 m pc ls rest) "java/lang/NegativeArraySizeException" tx := by
  subst htx
  exact vx_vm hx hlt (nb := 212) (names := ["java/lang/RuntimeException", "java/lang/Exception"]) (A := A) (by decide +kernel) (by decide +kernel) (by decide +kernel) (by decide +kernel) (zt_atN hts hK) zt_gdN hE.2.2.2.1 hE.2.2.2.2 hS hsz (negative_text_modelled hn) (Nat.le_trans (negative_text_bytes n) (by decide)) (by decide) (by show 2 + 4 < _; omega) hRl (by decide) hRc hRs hlocks (fun H1 q9 ce h1 h2 h3 h4 h5 h6 => k q9 ce H1 h4 h5 h6 (zP_keep hP h2) h3 h1)
end ZRT
section ZRT2
variable {p : Program} {l : Launch} {e : Env} {R : Room} {s : State} {m : MethodId} {args : Array Value} {below : List Frame} {meth : Method} {c : Code} {H : Heap} {locs : List Loc} {cells slots mc ms : Nat}
variable {cc : ByteArray} {pc : Nat} {ls : Array Slot} {G : zG} {A : Nat → Prop}
theorem zr_enz {S : Type} {F : S → Prop} {r : S → Option Value} {wsu : S → va_W} {v : Int32} {ty : FieldType} (u : S) (hx : p.tables.exec = Jvm.exec) (hb : c.code = cc) (hr : meth.sig.returnType = some ty) (hlocks : meth.locks = false) (hP : va_P G.1 zcl (wsu u) H) (hD : va_D A (wsu u)) (hS : va_S A s.heap H locs) (d : decode cc pc = .ok (.ireturn, 1)) (hn : narrow ty (.int v) = .int v) (h : r u = some (.int v)) (hF : F u) (h1 : cells ≤ mc) (h2 : slots ≤ ms) : W p l e R s m args below meth c H locs cells slots (MQ below (zQe G F r wsu A) args s mc ms A) (F0 m pc ls [.int v]) :=
  W.widen h1 h2 (W.zret hx hb hr hn (fun t ht _ => ⟨⟨u, by rw [h], hF, by rw [ht]; exact hP, hD⟩, hS.F ht⟩) hS.2.2 d hlocks)
end ZRT2
