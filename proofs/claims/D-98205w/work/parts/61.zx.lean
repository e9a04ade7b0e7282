/-! zx: contracts that return or throw one known object -/
/-- the end of a method that throws: the class, the object, the world -/
def zXx (G : zG) (fl : Bool) (F : Prop) (E : String) (qa : Nat) (ws : va_W) (A : Nat → Prop) : String → Addr → State → State → Prop := fun E' q st t => (E' = E ∧ q = qa ∧ fl = false ∧ F ∧ va_P G.1 zcl ws t.heap ∧ va_D A ws) ∧ va_F A st t
theorem xfl {b : Bool} (h : b = false) : ¬ b = true := fun q => absurd (h.symm.trans q) (by decide)
theorem zr_entX {l : Launch} {G : zG} {sz : Nat} {av : List Value} {ws ws' : va_W} {fl : Bool} {F : Prop} {E : String} {qa : Nat} {r : Option Value} {y : MethodName} {cc : ByteArray} {maxL mc ms : Nat} {ret : Option FieldType} {rm : Room} (hy : plainName y.cls = true) (hlen : (lg_sl av).length ≤ maxL)
    (body : ∀ (p : Program) (e : Env) (s : State) (m : MethodId) (below : List Frame) (meth : Method) (c : Code), zC p s m meth c cc maxL ret y av.toArray → (∀ x ∈ c.exceptionTable.toList, False) → ∀ ls : Array Slot, lv_has ls maxL (lv_args 0 av) → va_P G.1 zcl ws s.heap → KK G s → ∀ A : Nat → Prop, ZE G A s s.heap → (∀ q : Nat, s.heap.size ≤ q → A q) → va_D A ws → va_S A s.heap s.heap [] → W p l e rm s m av.toArray below meth c s.heap [] 0 0 (vx_MQ below (zQm G (fl = true ∧ F) r ws' A) (zXx G fl F E qa ws' A) av.toArray s mc ms A) (F0 m 0 ls [])) :
    vx_Met l y (ws_ y cc maxL ret) rm (zPm G sz av ws) (zQm G (fl = true ∧ F) r ws' (va_A ws sz)) (zXx G fl F E qa ws' (va_A ws sz)) mc ms (va_A ws sz) := by
  refine vx_ofW (cc := cc) (maxL := maxL) (ret := ret) hy rfl ?_
  intro p e s m args below meth c s₁ B hml hout hv
  obtain ⟨rfl, hsz, hP, hK, hD, hE⟩ := hv
  have hts := atoms_spec (ws := ws_ y cc maxL ret) B.pre
  have hl := lv_entry av (n := maxL) hlen
  rw [lg_entry_eq]
  subst hsz
  exact body p e s m below meth c ⟨B.exec, B.bytes, B.returns, hml, findClass_of_methodNamed B.named, fun w h => hts w (List.mem_cons_of_mem _ h), B.notSynchronized, (name_of_methodNamed B.named B.method).1⟩ hout _ hl hP hK _ hE (fun q h => Or.inr h) (hD.self (sz := s.heap.size)) va_S.rf
section ZRX
variable {p : Program} {l : Launch} {e : Env} {R : Room} {s : State} {m : MethodId} {args : Array Value} {below : List Frame} {meth : Method} {c : Code} {H : Heap} {locs : List Loc} {cells slots : Nat} {Q : State → Prop}
variable {cc : ByteArray} {pc : Nat} {ls : Array Slot} {rest st : List Value} {G : zG} {A : Nat → Prop} {H0 : Heap} {ws ws' : va_W}
theorem zr_xthrow {F : Prop} {fl : Bool} {E : String} {T : u_T} {N q : Nat} {fs : List Value} {rr : Option Value} (hout : ∀ x ∈ c.exceptionTable.toList, False) (hlocks : meth.locks = false) (hK : KK G s) (hP : va_P G.1 zcl ws H) (hD : va_D A ws) (hS : va_S A s.heap H locs) (k ci : Nat) (he : ws[k]? = some (q, .inr (ci, fs))) (hc : zcl[ci]? = some (E, T, N)) (hfl : fl = false) (hw : ws' = ws) (hF : F) : vx_W p l e R s m args below meth c H locs cells slots (vx_MQ below (zQm G (fl = true ∧ F) rr ws' A) (zXx G fl F E q ws' A) args s cells slots A) (F0 m pc ls rest) q := by
  subst hw
  obtain ⟨r, hr, cell, h1, h2, h3, -⟩ := hP k _ he
  cases Option.some.inj (hr.symm.trans hc)
  exact vx_out (fun x hx => (hout x hx).elim) hlocks h1 h3 (by rw [h2]; exact (hK.1.1 ci _ hc).2.1) (fun t ht hW => ⟨⟨rfl, rfl, hfl, hF, by rw [ht]; exact hP, hD⟩, hS.F ht⟩) hS.2.2 (Nat.le_refl _) (Nat.le_refl _)
variable {Ts : List Cond} {wsy ws9 : List Cond} {bytes : ByteArray} {nL maxL index n mc ms : Nat} {own C : String} {y : MethodName} {ret : Option FieldType} {rm : Room} {As : List Value} {r : Value}
/-- a call that may throw: two ways on; the rest of the world stays -/
theorem zr_muXs {F : Prop} {fl : Bool} {E : String} {qa : Nat} {w0 wr w1 wn : va_W} {r : Option Value} {a : Array Value} (isC isR perm : List Nat) (hC : isC.map (fun i => ws[i]?) = w0.map some) (hR : isR.map (fun i => ws[i]?) = wr.map some) (hnC : va_nd isC = true) (hn : va_nd isR = true) (hdis : ∀ i ∈ isR, i ∉ isC) (hpn : va_nd perm = true) (hperm : perm.map (fun i => (wr ++ w1)[i]?) = wn.map some) (hr : vx_Run p l e R s m args below meth c H locs cells slots mc ms (F0 m pc ls st) rest (zQm G (fl = true ∧ F) r w1 (va_A w0 H.size) a) (zXx G fl F E qa w1 (va_A w0 H.size)) (va_A w0 H.size)) (hP : va_P G.1 zcl ws H) (hD : va_D A ws) (hS : va_S A H0 H locs) (hA : ∀ q : Nat, H0.size ≤ q → A q)
    (k : fl = true → F → ∀ (H1 : Heap) (locs1 : List Loc), va_P G.1 zcl wn H1 → va_D A wn → va_S A H0 H1 locs1 → H.size ≤ H1.size → W p l e R s m args below meth c H1 locs1 (cells + mc) (slots + ms) Q (F0 m (pc + 3) ls (r.toList ++ rest)))
    (kx : fl = false → F → ∀ (H1 : Heap) (locs1 : List Loc), va_P G.1 zcl wn H1 → va_D A wn → va_S A H0 H1 locs1 → H.size ≤ H1.size → vx_W p l e R s m args below meth c H1 locs1 (cells + mc) (slots + ms) Q (F0 m pc ls rest) qa) : W p l e R s m args below meth c H locs cells slots Q (F0 m pc ls st) := by
  have hD0 : va_D A w0 := hD.sub isC hnC hC
  have hAA : ∀ q, va_A w0 H.size q → A q := by
    intro q h
    rcases h with ⟨k, e, hk⟩ | h
    · exact hD0.2 k _ hk
    · exact hA q (Nat.le_trans hS.1 h)
  intro T hT X
  rcases hr T hT X with ⟨v, st₀, t, T', L, h0, X', hL, e1, e2, ⟨⟨hv, ⟨hfl, hF⟩, hp, hd⟩, hz, hk⟩, stp⟩ | ⟨q, st₀, t, T', L, E', ce, h0, X', hL, e1, e2, ⟨⟨hE', hq, hfl, hF, hp, hd⟩, hz, hk⟩, hce, hcv, hcl, stp⟩
  · cases hv
    rw [h0] at hz hk
    obtain ⟨hP2, hD2⟩ := va_join hP hD isC isR hC hR hn hdis (H1 := T'.heap) (fun q h1 h2 => by rw [e1]; exact hk q h1 h2) hAA (by rw [e1]; exact hp) hd
    have hS1 : va_S A H0 T'.heap (locs ++ L) := ⟨Nat.le_trans hS.1 (by rw [e1]; exact hz), fun q h1 h2 => by rw [e1, hk q (Nat.lt_of_lt_of_le h1 hS.1) (fun z => h2 (hAA q z))]; exact hS.2.1 q h1 h2, fun q hq => by
        rcases List.mem_append.mp hq with h | h
        · exact hS.2.2 q h
        · exact hAA _ (hL q h)⟩
    obtain ⟨t2, a1, b1⟩ := k hfl hF T'.heap (locs ++ L) (zP_sub hP2 perm hperm) (hD2.sub perm hpn hperm) hS1 (by rw [e1]; exact hz) T' rfl X'
    exact ⟨t2, stp t2 a1, b1⟩
  · subst hq
    rw [h0] at hz hk
    obtain ⟨hP2, hD2⟩ := va_join hP hD isC isR hC hR hn hdis (H1 := T'.heap) (fun q h1 h2 => by rw [e1]; exact hk q h1 h2) hAA (by rw [e1]; exact hp) hd
    have hS1 : va_S A H0 T'.heap (locs ++ L) := ⟨Nat.le_trans hS.1 (by rw [e1]; exact hz), fun q h1 h2 => by rw [e1, hk q (Nat.lt_of_lt_of_le h1 hS.1) (fun z => h2 (hAA q z))]; exact hS.2.1 q h1 h2, fun q hq => by
        rcases List.mem_append.mp hq with h | h
        · exact hS.2.2 q h
        · exact hAA _ (hL q h)⟩
    obtain ⟨t2, a1, b1⟩ := kx hfl hF T'.heap (locs ++ L) (zP_sub hP2 perm hperm) (hD2.sub perm hpn hperm) hS1 (by rw [e1]; exact hz) T' rfl X'
    exact ⟨t2, stp.trans a1, b1⟩
theorem zr_muXV {τ : Type} {F : τ} {fl : τ → Bool} {ff : τ → Prop} {rr : τ → Option Value} {E : String} {qa : Nat} {w0 wr : va_W} {w1 wn : τ → va_W} {b : Nat} {fs : List Value} {q : vw_C} (isC isR perm : List Nat) (hC : isC.map (fun i => ws[i]?) = w0.map some) (hR : isR.map (fun i => ws[i]?) = wr.map some) (hnC : va_nd isC = true) (hn : va_nd isR = true) (hdis : ∀ i ∈ isR, i ∉ isC) (hpn : va_nd perm = true) (hperm : ∀ t, perm.map (fun i => (wr ++ w1 t)[i]?) = (wn t).map some) (C0 : CallFix p m c cc nL s args Ts own) (hM : vx_Met l y wsy rm (zPm G H.size (.ref b :: As) w0) (zQm G (fl F = true ∧ ff F) (rr F) (w1 F) (va_A w0 H.size)) (zXx G (fl F) (ff F) E qa (w1 F) (va_A w0 H.size)) mc ms (va_A w0 H.size)) (cw : CallW R s args own q.1 index y bytes maxL ret wsy rm mc ms n) (hP : va_P G.1 zcl ws H) (hD : va_D A ws) (hS : va_S A s.heap H locs) (hA : ∀ q : Nat, s.heap.size ≤ q → A q) (hK : KK G s) (hE : ZE G A s s.heap) (ci : Nat) (hc : zcl[ci]? = some q) (he : w0[0]? = some (b, .inr (ci, fs))) (hn2 : As.length = n) (hl : ls.size = nL) (hst : st = As.reverse ++ .ref b :: rest) (hW : (rest.map fun v => v.category).sum ≤ 8) (d : decode cc pc = .ok (.invokevirtual index, 3)) (hf : cells + mc ≤ R.cells ∧ slots + ms ≤ R.slots)
    (k : ∀ t : τ, F = t → fl t = true → ff t → ∀ (H1 : Heap) (locs1 : List Loc), va_P G.1 zcl (wn t) H1 → va_D A (wn t) → va_S A s.heap H1 locs1 → H.size ≤ H1.size → W p l e R s m args below meth c H1 locs1 (cells + mc) (slots + ms) Q (F0 m (pc + 3) ls ((rr t).toList ++ rest)))
    (kx : ∀ t : τ, F = t → fl t = false → ff t → ∀ (H1 : Heap) (locs1 : List Loc), va_P G.1 zcl (wn t) H1 → va_D A (wn t) → va_S A s.heap H1 locs1 → H.size ≤ H1.size → vx_W p l e R s m args below meth c H1 locs1 (cells + mc) (slots + ms) Q (F0 m pc ls rest) qa) : W p l e R s m args below meth c H locs cells slots Q (F0 m pc ls st) :=
  zr_muXs isC isR perm hC hR hnC hn hdis hpn (hperm F) (vx_runV C0 hM cw ⟨zPm_blind, va_recv hK.1 (zP_sub hP isC hC) hc he, fun U hU hW => ⟨rfl, by rw [hU], by rw [hU]; exact zP_sub hP isC hC, zKK_warm hW hK, (hD.sub isC hnC hC).weaken (fun _ _ _ _ => trivial), zE_m hE (hD.sub isC hnC hC) hS hA hW hU⟩⟩ rfl hn2 hl hst (lv_room (pc := pc) (ls := ls) (rest := st) hW) d hf) hP hD hS hA (k F rfl) (kx F rfl)
theorem zr_ma {F : Prop} {v : Nat} {r : Option Value} {ty : String} (hx : p.tables.exec = Jvm.exec) (hb : c.code = cc) (hr : meth.sig.returnType = some (.object ty)) (hlocks : meth.locks = false) (hP : va_P G.1 zcl ws H) (hD : va_D A ws) (hS : va_S A s.heap H locs) (d : decode cc pc = .ok (.areturn, 1)) (h : r = some (.ref v)) (hw : ws' = ws) (hF : F) : W p l e R s m args below meth c H locs cells slots (MQ below (zQm G F r ws' A) args s cells slots A) (F0 m pc ls [.ref v]) := by
  subst h; subst hw
  exact W.aret hx hb hr (Or.inl ⟨_, rfl⟩) (Or.inr ⟨_, rfl⟩) (fun t ht _ => ⟨⟨rfl, hF, by rw [ht]; exact hP, hD⟩, hS.F ht⟩) hS.2.2 d hlocks
theorem zr_copyi (k : Nat) {n9 : Int32} {a0 a n0 n1 : Nat} {c0 c1 : ClassId} {f g : Nat → Int32} (hx : p.tables.exec = Jvm.exec) (hb : c.code = cc) (hml : c.maxLocals = ls.size) (hown : s.vm.findClass own = some m.cls) (hlink : (Cond.methodLink own index arraycopyName).before args s = true) (hnat : (Cond.native arraycopyName).before args s = true) (hstat : (Cond.static arraycopyName).before args s = true) (hini : (Cond.initialized "java/lang/System").before args s = true) (hK : KK G s) (hP : va_P G.1 zcl ws H) (hD : va_D A ws) (hS : va_S A H0 H locs) (q0 q1 : Nat) (ha0 : ws[q0]? = some (a0, .inl (c0, n0, .inl f))) (ha1 : ws[q1]? = some (a, .inl (c1, n1, .inl g))) (ht0 : c0 = G.2 0) (ht1 : c1 = G.2 0) (hn : n9 = nI k) (h4 : k ≤ n0) (h5 : k ≤ n1) (hk : k < 2 ^ 31) (hw : ws.set q1 (a, .inl (c1, n1, .inl (va_cpy f g 0 0 k))) = ws') (hW : (rest.map fun v => v.category).sum ≤ 8) (hR : 1 ≤ R.frames ∧ 8 + (nativeFrameWords "java/lang/System" "arraycopy" 5 + 11) ≤ R.locals) (d : decode cc pc = .ok (.invokestatic index, 3))
    (kk : ∀ (H1 : Heap) (locs1 : List Loc), va_P G.1 zcl ws' H1 → va_D A ws' → va_S A H0 H1 locs1 → W p l e R s m args below meth c H1 locs1 cells slots Q (F0 m (pc + 3) ls rest)) : W p l e R s m args below meth c H locs cells slots Q (F0 m pc ls (.int n9 :: .int 0 :: .ref a :: .int 0 :: .ref a0 :: rest)) := by
  subst ht0; subst ht1; subst hn
  have e0 : (0 : Int32).toNatClampNeg = 0 := by decide
  refine va_copyi hx hb hml hown hlink hnat hstat hini hK.1 hP hD hS q0 q1 0 0 ha0 ha1 rfl rfl rfl (by decide) (by decide) (nI_pos hk) (by rw [e0, nI_clamp hk]; omega) (by rw [e0, nI_clamp hk]; omega) (fun _ _ => rfl) hR.1 (by have := hR.2; omega) d ?_
  rw [e0, nI_clamp hk, hw]
  exact kk
end ZRX
