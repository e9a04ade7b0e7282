/-! zq: calls in worlds up to order; methods that make or throw -/
theorem zpt {R C L K : va_W} (h : L.Perm (R ++ C)) : (L ++ K).Perm ((R ++ K) ++ C) := by
  refine (h.append_right K).trans ?_
  rw [List.append_assoc, List.append_assoc]
  exact List.Perm.append_left R List.perm_append_comm
theorem zpt' {R C L K : va_W} (h : (R ++ C).Perm L) : ((R ++ K) ++ C).Perm (L ++ K) := (zpt h.symm).symm
theorem zr_entXE {S : Type} {l : Launch} {G : zG} {sz : Nat} {av : List Value} {ws : va_W} {wsu wxu : S → va_W} {F FX : S → Prop} {r : S → Option Value} {E : String} {qa : Nat} {y : MethodName} {cc : ByteArray} {maxL mc ms : Nat} {ret : Option FieldType} {rm : Room} (hy : plainName y.cls = true) (hlen : (lg_sl av).length ≤ maxL)
    (body : ∀ (p : Program) (e : Env) (s : State) (m : MethodId) (below : List Frame) (meth : Method) (c : Code), zC p s m meth c cc maxL ret y av.toArray → (∀ x ∈ c.exceptionTable.toList, False) → ∀ ls : Array Slot, lv_has ls maxL (lv_args 0 av) → va_P G.1 zcl ws s.heap → KK G s → ∀ A : Nat → Prop, ZE G A s s.heap → (∀ q : Nat, s.heap.size ≤ q → A q) → va_D A ws → va_S A s.heap s.heap [] → W p l e rm s m av.toArray below meth c s.heap [] 0 0 (vx_MQ below (zQe G F r wsu A) (zXe G FX E qa wxu A) av.toArray s mc ms A) (F0 m 0 ls [])) :
    vx_Met l y (ws_ y cc maxL ret) rm (zPm G sz av ws) (zQe G F r wsu (va_A ws sz)) (zXe G FX E qa wxu (va_A ws sz)) mc ms (va_A ws sz) := by
  refine vx_ofW (cc := cc) (maxL := maxL) (ret := ret) hy rfl ?_
  intro p e s m args below meth c s₁ B hml hout hv
  obtain ⟨rfl, hsz, hP, hK, hD, hE⟩ := hv
  have hts := atoms_spec (ws := ws_ y cc maxL ret) B.pre
  have hl := lv_entry av (n := maxL) hlen
  rw [lg_entry_eq]
  subst hsz
  exact body p e s m below meth c ⟨B.exec, B.bytes, B.returns, hml, findClass_of_methodNamed B.named, fun w h => hts w (List.mem_cons_of_mem _ h), B.notSynchronized, (name_of_methodNamed B.named B.method).1⟩ hout _ hl hP hK _ hE (fun q h => Or.inr h) (hD.self (sz := s.heap.size)) va_S.rf
section ZRQ
variable {p : Program} {l : Launch} {e : Env} {R : Room} {s : State} {m : MethodId} {args : Array Value} {below : List Frame} {meth : Method} {c : Code} {H : Heap} {locs : List Loc} {cells slots : Nat} {Q : State → Prop}
variable {cc : ByteArray} {pc : Nat} {ls : Array Slot} {rest st : List Value} {G : zG} {A : Nat → Prop} {H0 : Heap} {ws ws' : va_W}
variable {Ts : List Cond} {wsy : List Cond} {bytes : ByteArray} {nL maxL index n mc ms : Nat} {own owner : String} {x y : MethodName} {ret : Option FieldType} {rm : Room} {As : List Value} {a : Array Value}
theorem zr_muPV {τ : Type} {F : τ} {ff : τ → Prop} {rr : τ → Option Value} {w0 wr : va_W} {w1 wn : τ → va_W} {b : Nat} {fs : List Value} {q : vw_C} (h1 : ws.Perm (wr ++ w0)) (h2 : ∀ t, (wr ++ w1 t).Perm (wn t)) (C0 : CallFix p m c cc nL s args Ts own) (hM : Met l y wsy rm (zPm G H.size (.ref b :: As) w0) (zQm G (ff F) (rr F) (w1 F) (va_A w0 H.size)) mc ms (va_A w0 H.size)) (cw : CallW R s args own q.1 index y bytes maxL ret wsy rm mc ms n) (hP : va_P G.1 zcl ws H) (hD : va_D A ws) (hS : va_S A s.heap H locs) (hA : ∀ q : Nat, s.heap.size ≤ q → A q) (hK : KK G s) (hE : ZE G A s s.heap) (q0 ci : Nat) (hc : zcl[ci]? = some q) (he : w0[q0]? = some (b, .inr (ci, fs))) (hn : As.length = n) (hl : ls.size = nL) (hst : st = As.reverse ++ .ref b :: rest) (hW : (rest.map fun v => v.category).sum ≤ 8) (d : decode cc pc = .ok (.invokevirtual index, 3)) (hf : cells + mc ≤ R.cells ∧ slots + ms ≤ R.slots)
    (k : ∀ t : τ, F = t → ff t → ∀ (H1 : Heap) (locs1 : List Loc), va_P G.1 zcl (wn t) H1 → va_D A (wn t) → va_S A s.heap H1 locs1 → H.size ≤ H1.size → W p l e R s m args below meth c H1 locs1 (cells + mc) (slots + ms) Q (F0 m (pc + 3) ls ((rr t).toList ++ rest))) : W p l e R s m args below meth c H locs cells slots Q (F0 m pc ls st) :=
  have hP0 : va_P G.1 zcl w0 H := zP_right (zP_perm h1 hP)
  have hD0 : va_D A w0 := zD_right (zD_perm h1 hD)
  zr_muP h1 (h2 F) (va_runV C0 hM cw ⟨zPm_blind, va_recv hK.1 hP0 hc he, fun U hU hW => ⟨rfl, by rw [hU], by rw [hU]; exact hP0, zKK_warm hW hK, hD0.weaken (fun _ _ _ _ => trivial), zE_m hE hD0 hS hA hW hU⟩⟩ rfl hn hl hst (lv_room (pc := pc) (ls := ls) (rest := st) hW) d hf) hP hD hS hA (k F rfl)
theorem zr_muPU {τ : Type} {F : τ} {ff : τ → Prop} {rr : τ → Option Value} {w0 wr : va_W} {w1 wn : τ → va_W} {b : Nat} {fs : List Value} {q : vw_C} (h1 : ws.Perm (wr ++ w0)) (h2 : ∀ t, (wr ++ w1 t).Perm (wn t)) (C0 : CallFix p m c cc nL s args Ts own) (hM : Met l y wsy rm (zPm G H.size (.ref b :: As) w0) (zQm G (ff F) (rr F) (w1 F) (va_A w0 H.size)) mc ms (va_A w0 H.size)) (cw : va_CU R s args own q.1 owner index x y bytes maxL ret wsy rm mc ms n) (hP : va_P G.1 zcl ws H) (hD : va_D A ws) (hS : va_S A s.heap H locs) (hA : ∀ q : Nat, s.heap.size ≤ q → A q) (hK : KK G s) (hE : ZE G A s s.heap) (q0 ci : Nat) (hc : zcl[ci]? = some q) (he : w0[q0]? = some (b, .inr (ci, fs))) (hn : As.length = n) (hl : ls.size = nL) (hst : st = As.reverse ++ .ref b :: rest) (hW : (rest.map fun v => v.category).sum ≤ 8) (d : decode cc pc = .ok (.invokevirtual index, 3)) (hf : cells + mc ≤ R.cells ∧ slots + ms ≤ R.slots)
    (k : ∀ t : τ, F = t → ff t → ∀ (H1 : Heap) (locs1 : List Loc), va_P G.1 zcl (wn t) H1 → va_D A (wn t) → va_S A s.heap H1 locs1 → H.size ≤ H1.size → W p l e R s m args below meth c H1 locs1 (cells + mc) (slots + ms) Q (F0 m (pc + 3) ls ((rr t).toList ++ rest))) : W p l e R s m args below meth c H locs cells slots Q (F0 m pc ls st) :=
  have hP0 : va_P G.1 zcl w0 H := zP_right (zP_perm h1 hP)
  have hD0 : va_D A w0 := zD_right (zD_perm h1 hD)
  zr_muP h1 (h2 F) (va_runU C0 hM cw ⟨zPm_blind, va_recv hK.1 hP0 hc he, fun U hU hW => ⟨rfl, by rw [hU], by rw [hU]; exact hP0, zKK_warm hW hK, hD0.weaken (fun _ _ _ _ => trivial), zE_m hE hD0 hS hA hW hU⟩⟩ rfl hn hl hst (lv_room (pc := pc) (ls := ls) (rest := st) hW) d hf) hP hD hS hA (k F rfl)
/-- the same, of a method that makes -/
theorem zr_muNU {S : Type} {ff : S → Prop} {rr : S → Option Value} {w0 wr : va_W} {w1 wn : S → va_W} {b : Nat} {fs : List Value} {q : vw_C} (h1 : ws.Perm (wr ++ w0)) (h2 : ∀ u, (wr ++ w1 u).Perm (wn u)) (C0 : CallFix p m c cc nL s args Ts own) (hM : Met l y wsy rm (zPm G H.size (.ref b :: As) w0) (zQe G ff rr w1 (va_A w0 H.size)) mc ms (va_A w0 H.size)) (cw : va_CU R s args own q.1 owner index x y bytes maxL ret wsy rm mc ms n) (hP : va_P G.1 zcl ws H) (hD : va_D A ws) (hS : va_S A s.heap H locs) (hA : ∀ q : Nat, s.heap.size ≤ q → A q) (hK : KK G s) (hE : ZE G A s s.heap) (q0 ci : Nat) (hc : zcl[ci]? = some q) (he : w0[q0]? = some (b, .inr (ci, fs))) (hn : As.length = n) (hl : ls.size = nL) (hst : st = As.reverse ++ .ref b :: rest) (hW : (rest.map fun v => v.category).sum ≤ 8) (d : decode cc pc = .ok (.invokevirtual index, 3)) (hf : cells + mc ≤ R.cells ∧ slots + ms ≤ R.slots)
    (k : ∀ u : S, ff u → ∀ (H1 : Heap) (locs1 : List Loc), va_P G.1 zcl (wn u) H1 → va_D A (wn u) → va_S A s.heap H1 locs1 → H.size ≤ H1.size → W p l e R s m args below meth c H1 locs1 (cells + mc) (slots + ms) Q (F0 m (pc + 3) ls ((rr u).toList ++ rest))) : W p l e R s m args below meth c H locs cells slots Q (F0 m pc ls st) :=
  have hP0 : va_P G.1 zcl w0 H := zP_right (zP_perm h1 hP)
  have hD0 : va_D A w0 := zD_right (zD_perm h1 hD)
  zr_muE h1 h2 (va_runU C0 hM cw ⟨zPm_blind, va_recv hK.1 hP0 hc he, fun U hU hW => ⟨rfl, by rw [hU], by rw [hU]; exact hP0, zKK_warm hW hK, hD0.weaken (fun _ _ _ _ => trivial), zE_m hE hD0 hS hA hW hU⟩⟩ rfl hn hl hst (lv_room (pc := pc) (ls := ls) (rest := st) hW) d hf) hP hD hS hA k
/-- a call that returns or throws, and may make -/
theorem zr_muXE {S : Type} {F FX : S → Prop} {wr w0 : va_W} {w1 wn wx wnx : S → va_W} {r : S → Option Value} {E : String} {qa : Nat} (h1 : ws.Perm (wr ++ w0)) (h2 : ∀ u, (wr ++ w1 u).Perm (wn u)) (h3 : ∀ u, (wr ++ wx u).Perm (wnx u)) (hr : vx_Run p l e R s m args below meth c H locs cells slots mc ms (F0 m pc ls st) rest (zQe G F r w1 (va_A w0 H.size) a) (zXe G FX E qa wx (va_A w0 H.size)) (va_A w0 H.size)) (hP : va_P G.1 zcl ws H) (hD : va_D A ws) (hS : va_S A H0 H locs) (hA : ∀ q : Nat, H0.size ≤ q → A q)
    (k : ∀ u, F u → ∀ (H1 : Heap) (locs1 : List Loc), va_P G.1 zcl (wn u) H1 → va_D A (wn u) → va_S A H0 H1 locs1 → H.size ≤ H1.size → W p l e R s m args below meth c H1 locs1 (cells + mc) (slots + ms) Q (F0 m (pc + 3) ls ((r u).toList ++ rest)))
    (kx : ∀ u, FX u → ∀ (H1 : Heap) (locs1 : List Loc), va_P G.1 zcl (wnx u) H1 → va_D A (wnx u) → va_S A H0 H1 locs1 → H.size ≤ H1.size → vx_W p l e R s m args below meth c H1 locs1 (cells + mc) (slots + ms) Q (F0 m pc ls rest) qa) : W p l e R s m args below meth c H locs cells slots Q (F0 m pc ls st) := by
  have hP' := zP_perm h1 hP
  have hD' := zD_perm h1 hD
  have hAA := zAA hD' hS hA
  intro T hT X
  rcases hr T hT X with ⟨v, st₀, t, T', L, h0, X', hL, e1, e2, ⟨⟨u, hv, hF, hp, hd⟩, hz, hk⟩, stp⟩ | ⟨q, st₀, t, T', L, E', ce, h0, X', hL, e1, e2, ⟨⟨hE', hq, u, hF, hp, hd⟩, hz, hk⟩, hce, hcv, hcl, stp⟩
  · cases hv
    rw [h0] at hz hk
    obtain ⟨t2, a1, b1⟩ := k u hF T'.heap (locs ++ L) (zP_perm (h2 u) (zj_P hP' hD' (fun q h1 h2 => by rw [e1]; exact hk q h1 h2) (by rw [e1]; exact hp))) (zD_perm (h2 u) (zj_D hP' hD' hAA hd)) (zS_after hS hAA e1 hz hk hL) (by rw [e1]; exact hz) T' rfl X'
    exact ⟨t2, stp t2 a1, b1⟩
  · subst hq
    rw [h0] at hz hk
    obtain ⟨t2, a1, b1⟩ := kx u hF T'.heap (locs ++ L) (zP_perm (h3 u) (zj_P hP' hD' (fun q h1 h2 => by rw [e1]; exact hk q h1 h2) (by rw [e1]; exact hp))) (zD_perm (h3 u) (zj_D hP' hD' hAA hd)) (zS_after hS hAA e1 hz hk hL) (by rw [e1]; exact hz) T' rfl X'
    exact ⟨t2, stp.trans a1, b1⟩
theorem zr_muXEV {S : Type} {F FX : S → Prop} {wr w0 : va_W} {w1 wn wx wnx : S → va_W} {rr : S → Option Value} {E : String} {qa b : Nat} {fs : List Value} {q : vw_C} (h1 : ws.Perm (wr ++ w0)) (h2 : ∀ u, (wr ++ w1 u).Perm (wn u)) (h3 : ∀ u, (wr ++ wx u).Perm (wnx u)) (C0 : CallFix p m c cc nL s args Ts own) (hM : vx_Met l y wsy rm (zPm G H.size (.ref b :: As) w0) (zQe G F rr w1 (va_A w0 H.size)) (zXe G FX E qa wx (va_A w0 H.size)) mc ms (va_A w0 H.size)) (cw : CallW R s args own q.1 index y bytes maxL ret wsy rm mc ms n) (hP : va_P G.1 zcl ws H) (hD : va_D A ws) (hS : va_S A s.heap H locs) (hA : ∀ q : Nat, s.heap.size ≤ q → A q) (hK : KK G s) (hE : ZE G A s s.heap) (q0 ci : Nat) (hc : zcl[ci]? = some q) (he : w0[q0]? = some (b, .inr (ci, fs))) (hn : As.length = n) (hl : ls.size = nL) (hst : st = As.reverse ++ .ref b :: rest) (hW : (rest.map fun v => v.category).sum ≤ 8) (d : decode cc pc = .ok (.invokevirtual index, 3)) (hf : cells + mc ≤ R.cells ∧ slots + ms ≤ R.slots)
    (k : ∀ u, F u → ∀ (H1 : Heap) (locs1 : List Loc), va_P G.1 zcl (wn u) H1 → va_D A (wn u) → va_S A s.heap H1 locs1 → H.size ≤ H1.size → W p l e R s m args below meth c H1 locs1 (cells + mc) (slots + ms) Q (F0 m (pc + 3) ls ((rr u).toList ++ rest)))
    (kx : ∀ u, FX u → ∀ (H1 : Heap) (locs1 : List Loc), va_P G.1 zcl (wnx u) H1 → va_D A (wnx u) → va_S A s.heap H1 locs1 → H.size ≤ H1.size → vx_W p l e R s m args below meth c H1 locs1 (cells + mc) (slots + ms) Q (F0 m pc ls rest) qa) : W p l e R s m args below meth c H locs cells slots Q (F0 m pc ls st) :=
  have hP0 : va_P G.1 zcl w0 H := zP_right (zP_perm h1 hP)
  have hD0 : va_D A w0 := zD_right (zD_perm h1 hD)
  zr_muXE h1 h2 h3 (vx_runV C0 hM cw ⟨zPm_blind, va_recv hK.1 hP0 hc he, fun U hU hW => ⟨rfl, by rw [hU], by rw [hU]; exact hP0, zKK_warm hW hK, hD0.weaken (fun _ _ _ _ => trivial), zE_m hE hD0 hS hA hW hU⟩⟩ rfl hn hl hst (lv_room (pc := pc) (ls := ls) (rest := st) hW) d hf) hP hD hS hA k kx
/-- a method of mode X called in a world up to order -/
theorem zr_muXP {F : Prop} {fl : Bool} {E : String} {qa : Nat} {w0 wr w1 wn : va_W} {r : Option Value} (h1 : ws.Perm (wr ++ w0)) (h2 : (wr ++ w1).Perm wn) (hr : vx_Run p l e R s m args below meth c H locs cells slots mc ms (F0 m pc ls st) rest (zQm G (fl = true ∧ F) r w1 (va_A w0 H.size) a) (zXx G fl F E qa w1 (va_A w0 H.size)) (va_A w0 H.size)) (hP : va_P G.1 zcl ws H) (hD : va_D A ws) (hS : va_S A H0 H locs) (hA : ∀ q : Nat, H0.size ≤ q → A q)
    (k : fl = true → F → ∀ (H1 : Heap) (locs1 : List Loc), va_P G.1 zcl wn H1 → va_D A wn → va_S A H0 H1 locs1 → H.size ≤ H1.size → W p l e R s m args below meth c H1 locs1 (cells + mc) (slots + ms) Q (F0 m (pc + 3) ls (r.toList ++ rest)))
    (kx : fl = false → F → ∀ (H1 : Heap) (locs1 : List Loc), va_P G.1 zcl wn H1 → va_D A wn → va_S A H0 H1 locs1 → H.size ≤ H1.size → vx_W p l e R s m args below meth c H1 locs1 (cells + mc) (slots + ms) Q (F0 m pc ls rest) qa) : W p l e R s m args below meth c H locs cells slots Q (F0 m pc ls st) := by
  have hP' := zP_perm h1 hP
  have hD' := zD_perm h1 hD
  have hAA := zAA hD' hS hA
  intro T hT X
  rcases hr T hT X with ⟨v, st₀, t, T', L, h0, X', hL, e1, e2, ⟨⟨hv, ⟨hfl, hF⟩, hp, hd⟩, hz, hk⟩, stp⟩ | ⟨q, st₀, t, T', L, E', ce, h0, X', hL, e1, e2, ⟨⟨hE', hq, hfl, hF, hp, hd⟩, hz, hk⟩, hce, hcv, hcl, stp⟩
  · cases hv
    rw [h0] at hz hk
    obtain ⟨t2, a1, b1⟩ := k hfl hF T'.heap (locs ++ L) (zP_perm h2 (zj_P hP' hD' (fun q h1 h2 => by rw [e1]; exact hk q h1 h2) (by rw [e1]; exact hp))) (zD_perm h2 (zj_D hP' hD' hAA hd)) (zS_after hS hAA e1 hz hk hL) (by rw [e1]; exact hz) T' rfl X'
    exact ⟨t2, stp t2 a1, b1⟩
  · subst hq
    rw [h0] at hz hk
    obtain ⟨t2, a1, b1⟩ := kx hfl hF T'.heap (locs ++ L) (zP_perm h2 (zj_P hP' hD' (fun q h1 h2 => by rw [e1]; exact hk q h1 h2) (by rw [e1]; exact hp))) (zD_perm h2 (zj_D hP' hD' hAA hd)) (zS_after hS hAA e1 hz hk hL) (by rw [e1]; exact hz) T' rfl X'
    exact ⟨t2, stp.trans a1, b1⟩
theorem zr_muXPV {τ : Type} {F : τ} {fl : τ → Bool} {ff : τ → Prop} {rr : τ → Option Value} {E : String} {qa : Nat} {w0 wr : va_W} {w1 wn : τ → va_W} {b : Nat} {fs : List Value} {q : vw_C} (h1 : ws.Perm (wr ++ w0)) (h2 : ∀ t, (wr ++ w1 t).Perm (wn t)) (C0 : CallFix p m c cc nL s args Ts own) (hM : vx_Met l y wsy rm (zPm G H.size (.ref b :: As) w0) (zQm G (fl F = true ∧ ff F) (rr F) (w1 F) (va_A w0 H.size)) (zXx G (fl F) (ff F) E qa (w1 F) (va_A w0 H.size)) mc ms (va_A w0 H.size)) (cw : CallW R s args own q.1 index y bytes maxL ret wsy rm mc ms n) (hP : va_P G.1 zcl ws H) (hD : va_D A ws) (hS : va_S A s.heap H locs) (hA : ∀ q : Nat, s.heap.size ≤ q → A q) (hK : KK G s) (hE : ZE G A s s.heap) (q0 ci : Nat) (hc : zcl[ci]? = some q) (he : w0[q0]? = some (b, .inr (ci, fs))) (hn : As.length = n) (hl : ls.size = nL) (hst : st = As.reverse ++ .ref b :: rest) (hW : (rest.map fun v => v.category).sum ≤ 8) (d : decode cc pc = .ok (.invokevirtual index, 3)) (hf : cells + mc ≤ R.cells ∧ slots + ms ≤ R.slots)
    (k : ∀ t : τ, F = t → fl t = true → ff t → ∀ (H1 : Heap) (locs1 : List Loc), va_P G.1 zcl (wn t) H1 → va_D A (wn t) → va_S A s.heap H1 locs1 → H.size ≤ H1.size → W p l e R s m args below meth c H1 locs1 (cells + mc) (slots + ms) Q (F0 m (pc + 3) ls ((rr t).toList ++ rest)))
    (kx : ∀ t : τ, F = t → fl t = false → ff t → ∀ (H1 : Heap) (locs1 : List Loc), va_P G.1 zcl (wn t) H1 → va_D A (wn t) → va_S A s.heap H1 locs1 → H.size ≤ H1.size → vx_W p l e R s m args below meth c H1 locs1 (cells + mc) (slots + ms) Q (F0 m pc ls rest) qa) : W p l e R s m args below meth c H locs cells slots Q (F0 m pc ls st) :=
  have hP0 : va_P G.1 zcl w0 H := zP_right (zP_perm h1 hP)
  have hD0 : va_D A w0 := zD_right (zD_perm h1 hD)
  zr_muXP h1 (h2 F) (vx_runV C0 hM cw ⟨zPm_blind, va_recv hK.1 hP0 hc he, fun U hU hW => ⟨rfl, by rw [hU], by rw [hU]; exact hP0, zKK_warm hW hK, hD0.weaken (fun _ _ _ _ => trivial), zE_m hE hD0 hS hA hW hU⟩⟩ rfl hn hl hst (lv_room (pc := pc) (ls := ls) (rest := st) hW) d hf) hP hD hS hA (k F rfl) (kx F rfl)
/-- ends -/
theorem zr_xend {S : Type} {F : S → Prop} {wsu : S → va_W} {Qc : Array Value → State → Outcome → State → Prop} {E : String} {T : u_T} {N q : Nat} {fs : List Value} (u : S) (hout : ∀ x ∈ c.exceptionTable.toList, False) (hlocks : meth.locks = false) (hK : KK G s) (hP : va_P G.1 zcl ws H) (hD : va_D A ws) (hS : va_S A s.heap H locs) (k ci : Nat) (he : ws[k]? = some (q, .inr (ci, fs))) (hc : zcl[ci]? = some (E, T, N)) (hP2 : va_P G.1 zcl ws H → va_P G.1 zcl (wsu u) H) (hD2 : va_D A ws → va_D A (wsu u)) (hF : F u) (h1 : cells ≤ mc) (h2 : slots ≤ ms) : vx_W p l e R s m args below meth c H locs cells slots (vx_MQ below Qc (zXe G F E q wsu A) args s mc ms A) (F0 m pc ls rest) q := by
  obtain ⟨r, hr, cell, g1, g2, g3, -⟩ := hP k _ he
  cases Option.some.inj (hr.symm.trans hc)
  exact vx_out (fun x hx => (hout x hx).elim) hlocks g1 g3 (by rw [g2]; exact (hK.1.1 ci _ hc).2.1) (fun t ht hW => ⟨⟨rfl, rfl, u, hF, by rw [ht]; exact hP2 hP, hD2 hD⟩, hS.F ht⟩) hS.2.2 h1 h2
theorem zr_env {S : Type} {F : S → Prop} {r : S → Option Value} {wsu : S → va_W} (u : S) (hx : p.tables.exec = Jvm.exec) (hb : c.code = cc) (hr : meth.sig.returnType = none) (hlocks : meth.locks = false) (hP : va_P G.1 zcl (wsu u) H) (hD : va_D A (wsu u)) (hS : va_S A s.heap H locs) (d : decode cc pc = .ok (.return_, 1)) (h : r u = none) (hF : F u) (h1 : cells ≤ mc) (h2 : slots ≤ ms) : W p l e R s m args below meth c H locs cells slots (MQ below (zQe G F r wsu A) args s mc ms A) (F0 m pc ls []) :=
  W.widen h1 h2 (W.vret hx hb hr (fun t ht _ => ⟨⟨u, by rw [h], hF, by rw [ht]; exact hP, hD⟩, hS.F ht⟩) hS.2.2 d hlocks)
theorem zr_ena {S : Type} {F : S → Prop} {r : S → Option Value} {wsu : S → va_W} {v : Nat} {ty : String} (u : S) (hx : p.tables.exec = Jvm.exec) (hb : c.code = cc) (hr : meth.sig.returnType = some (.object ty)) (hlocks : meth.locks = false) (hP : va_P G.1 zcl (wsu u) H) (hD : va_D A (wsu u)) (hS : va_S A s.heap H locs) (d : decode cc pc = .ok (.areturn, 1)) (h : r u = some (.ref v)) (hF : F u) (h1 : cells ≤ mc) (h2 : slots ≤ ms) : W p l e R s m args below meth c H locs cells slots (MQ below (zQe G F r wsu A) args s mc ms A) (F0 m pc ls [.ref v]) :=
  W.widen h1 h2 (W.aret hx hb hr (Or.inl ⟨_, rfl⟩) (Or.inr ⟨_, rfl⟩) (fun t ht _ => ⟨⟨u, by rw [h], hF, by rw [ht]; exact hP, hD⟩, hS.F ht⟩) hS.2.2 d hlocks)
theorem zr_eni {S : Type} {F : S → Prop} {r : S → Option Value} {wsu : S → va_W} {v : Int32} (u : S) (hx : p.tables.exec = Jvm.exec) (hb : c.code = cc) (hr : meth.sig.returnType = some .int) (hlocks : meth.locks = false) (hP : va_P G.1 zcl (wsu u) H) (hD : va_D A (wsu u)) (hS : va_S A s.heap H locs) (d : decode cc pc = .ok (.ireturn, 1)) (h : r u = some (.int v)) (hF : F u) (h1 : cells ≤ mc) (h2 : slots ≤ ms) : W p l e R s m args below meth c H locs cells slots (MQ below (zQe G F r wsu A) args s mc ms A) (F0 m pc ls [.int v]) :=
  W.widen h1 h2 (W.iret hx hb hr (fun t ht _ => ⟨⟨u, by rw [h], hF, by rw [ht]; exact hP, hD⟩, hS.F ht⟩) hS.2.2 d hlocks)
end ZRQ
theorem lw_U {own : String} {idx : Nat} {C owner : String} {x y : MethodName} {b : ByteArray} {L : Nat} {r : Option FieldType} (h1 : Cond.methodLink own idx x ∈ lw_all) (h2 : Cond.sameMethod x.cls owner x.name x.desc ∈ lw_all) (h3 : Cond.selects C x y ∈ lw_all) (h4 : Cond.instanceMethod y ∈ lw_all) (h5 : Cond.initialized y.cls ∈ lw_all) (h6 : Cond.code y b L r ∈ lw_all) : GoodIn lw_all (va_wsU own idx C owner x y (ws_ y b L r)) := by
  refine lw_app ?_ (lw_meth h6)
  intro w hw
  simp only [List.mem_cons, List.not_mem_nil, or_false] at hw
  rcases hw with e | e | e | e | e <;> rw [e] <;> assumption
section ZRC
variable {p : Program} {l : Launch} {e : Env} {R : Room} {s : State} {m : MethodId} {args : Array Value} {below : List Frame} {meth : Method} {c : Code} {H : Heap} {locs : List Loc} {cells slots : Nat} {Q : State → Prop}
variable {cc : ByteArray} {pc : Nat} {ls : Array Slot} {rest st : List Value} {G : zG} {A : Nat → Prop} {H0 : Heap} {ws ws' : va_W}
/-- System.arraycopy of an array of references, from the first on -/
theorem zr_copyq {own C : String} {index : Nat} (k i6 : Nat) {n9 : Int32} {a0 a n0 n1 : Nat} {f g : Nat → Option Nat} (hx : p.tables.exec = Jvm.exec) (hb : c.code = cc) (hml : c.maxLocals = ls.size) (hown : s.vm.findClass own = some m.cls) (hlink : (Cond.methodLink own index arraycopyName).before args s = true) (hnat : (Cond.native arraycopyName).before args s = true) (hstat : (Cond.static arraycopyName).before args s = true) (hini : (Cond.initialized "java/lang/System").before args s = true) (hK : KK G s) (hP : va_P G.1 zcl ws H) (hD : va_D A ws) (hS : va_S A H0 H locs) (q0 q1 : Nat) (ha0 : ws[q0]? = some (a0, .inl (G.2 i6, n0, .inr (.inr (.inr (.inr f)))))) (ha1 : ws[q1]? = some (a, .inl (G.2 i6, n1, .inr (.inr (.inr (.inr g)))))) (ht : (zty G)[i6]? = some (G.2 i6, .object C)) (hn : n9 = nI k) (h4 : k ≤ n0) (h5 : k ≤ n1) (hk : k < 2 ^ 31)
    (hkid : ∀ i, i < k → ∃ (x ci : Nat) (fs : List Value) (r : vw_C), f i = some x ∧ (x, .inr (ci, fs)) ∈ ws ∧ zcl[ci]? = some r ∧ va_Nw (.castable r.1 C) s) (hw : ws.set q1 (a, .inl (G.2 i6, n1, .inr (.inr (.inr (.inr (va_cpy f g 0 0 k)))))) = ws') (hW : (rest.map fun v => v.category).sum ≤ 8) (hR : 1 ≤ R.frames ∧ 64 ≤ R.locals) (d : decode cc pc = .ok (.invokestatic index, 3))
    (kk : ∀ (H1 : Heap) (locs1 : List Loc), va_P G.1 zcl ws' H1 → va_D A ws' → va_S A H0 H1 locs1 → W p l e R s m args below meth c H1 locs1 cells slots Q (F0 m (pc + 3) ls rest)) : W p l e R s m args below meth c H locs cells slots Q (F0 m pc ls (.int n9 :: .int 0 :: .ref a :: .int 0 :: .ref a0 :: rest)) := by
  subst hn
  have e0 : (0 : Int32).toNatClampNeg = 0 := by decide
  have ek : (nI k).toNatClampNeg = k := nI_clamp hk
  have h3 : ¬ nI k < 0 := nI_pos hk
  have hzi : (0 : Int32).toInt = 0 := by decide
  have hki : (nI k).toInt = (k : Int) := nI_toInt hk
  have h9 : nativeFrameWords "java/lang/System" "arraycopy" 5 + 11 ≤ 56 := by decide
  obtain ⟨hA1, hRA⟩ := hK.1.2 i6 _ ht
  obtain ⟨kA, comp, hkA, hkind, hcomp, -⟩ := hRA
  obtain ⟨kE, hkE, -⟩ := Vm.findClass_spec hcomp
  intro T hT X
  have hc0 : H[a0]? = some (vp_cell (G.2 i6) (n0, .inr (.inr (.inr (.inr f))))) := hP q0 _ ha0
  have hc1 : H[a]? = some (vp_cell (G.2 i6) (n1, .inr (.inr (.inr (.inr g))))) := hP q1 _ ha1
  obtain ⟨vm', X', step⟩ := X.arraycopy hx hown hlink hnat hstat hini (src := a0) (dst := a) (cs := vp_cell (G.2 i6) (n0, .inr (.inr (.inr (.inr f))))) (cd := vp_cell (G.2 i6) (n1, .inr (.inr (.inr (.inr g))))) (srcPos := 0) (destPos := 0) (n := nI k) (by rw [hT]; exact hc0) (by rw [hT]; exact hc1)
    (fun _ h => by cases h) (fun _ h => by cases h) (fun h => by cases h) (fun h => by cases h) hkA hkA hkind hkind (by simp [refKind]) (by decide) (by decide) h3
    (by rw [hzi, hki]; show ¬ _ > ((arrV (G.2 i6) n0 (fun j => va_rf (f j))).slots.size : Int); rw [arrV_size]; omega)
    (by rw [hzi, hki]; show ¬ _ > ((arrV (G.2 i6) n1 (fun j => va_rf (g j))).slots.size : Int); rw [arrV_size]; omega)
    (fun vm₁ hvm i hi => by
      rw [ek] at hi
      have e : (vp_cell (G.2 i6) (n0, .inr (.inr (.inr (.inr f))))).slots.getD ((0 : Int32).toNatClampNeg + i) .null = va_rf (f i) := by
        show (arrV (G.2 i6) n0 (fun j => va_rf (f j))).slots.getD _ _ = _
        rw [e0, Nat.zero_add, Array.getD_eq_getD_getElem?, arrV_read _ _ (by omega)]
        rfl
      rw [e]
      obtain ⟨x, ci, fs, r, hfx, hmem, hcr, hca⟩ := hkid i hi
      rw [hfx]
      refine ⟨rfl, ?_⟩
      obtain ⟨r', hr', cellV, g1, g2, g3, -⟩ := zP_mem.mp hP _ hmem
      have hcls := (hK.1.1 ci r hcr).2
      obtain ⟨c1, t1, f1, f2, f3⟩ := Cond.castable_spec (va_Nw.use (A := args) rfl hca)
      cases hcls.1.symm.trans f1
      cases hcomp.symm.trans f2
      obtain ⟨kC, hkC, -⟩ := hcls.2
      obtain ⟨kC', hkC', -⟩ := hvm.2.2 _ _ hkC
      obtain ⟨kE', hkE', -⟩ := hvm.2.2 _ _ hkE
      refine ⟨cellV, ?_, (fun q h => by rw [g3] at h; cases h), ⟨kC', by rw [g2]; exact hkC'⟩, ⟨kE', hkE'⟩, ?_⟩
      · show T.heap[x]? = some cellV
        rw [hT]; exact g1
      · show vm₁.assignable cellV.cls comp = true
        rw [hvm.assignable, g2]; exact f3)
    (g := F0 m pc ls (.int (nI k) :: .int 0 :: .ref a :: .int 0 :: .ref a0 :: rest)) rfl (by rw [hml]) (rest := rest) rfl (by rw [hb]; exact d) hR.1 (Nat.le_trans (Nat.add_le_add (by show 2 * 0 + _ ≤ 8; omega) h9) hR.2)
  have e1 : copied (vp_cell (G.2 i6) (n0, .inr (.inr (.inr (.inr f))))) (vp_cell (G.2 i6) (n1, .inr (.inr (.inr (.inr g))))) 0 0 (nI k) = vp_cell (G.2 i6) (n1, .inr (.inr (.inr (.inr (va_cpy f g 0 0 k))))) := by
    have h := va_copied (fun z => va_rf z) (G.2 i6) (G.2 i6) (n0 := n0) (n1 := n1) (sp := 0) (dp := 0) (n := k) f g (by omega)
    show (arrV (G.2 i6) n1 (fun j => va_rf (g j))).storeRun (0 : Int32).toNatClampNeg ((arrV (G.2 i6) n0 (fun j => va_rf (f j))).stretch (0 : Int32).toNatClampNeg (nI k).toNatClampNeg) = _
    rw [e0, ek]
    exact h
  rw [e1] at X' step
  have hl : a < H.size := (Array.getElem?_eq_some_iff.mp hc1).1
  have hheap : ((T.setVm vm').setCell a (vp_cell (G.2 i6) (n1, .inr (.inr (.inr (.inr (va_cpy f g 0 0 k))))))).heap = H.setIfInBounds a (vp_cell (G.2 i6) (n1, .inr (.inr (.inr (.inr (va_cpy f g 0 0 k)))))) := by rw [← hT]; rfl
  have oq : ∀ q : Nat, q ≠ a → (H.setIfInBounds a (vp_cell (G.2 i6) (n1, .inr (.inr (.inr (.inr (va_cpy f g 0 0 k)))))))[q]? = H[q]? := fun q hq => by simp [Array.getElem?_setIfInBounds, Ne.symm hq]
  have hP1 := hP.set (e := .inl (G.2 i6, n1, .inr (.inr (.inr (.inr (va_cpy f g 0 0 k)))))) hD ha1 (show (H.setIfInBounds a (vp_cell (G.2 i6) (n1, .inr (.inr (.inr (.inr (va_cpy f g 0 0 k)))))))[a]? = some (vp_cell (G.2 i6) (n1, .inr (.inr (.inr (.inr (va_cpy f g 0 0 k)))))) by simp [Array.getElem?_setIfInBounds, hl]) oq
  have hD1 := hD.set (e := .inl (G.2 i6, n1, .inr (.inr (.inr (.inr (va_cpy f g 0 0 k)))))) ha1
  rw [hw] at hP1 hD1
  obtain ⟨t, a1, b1⟩ := kk _ _ hP1 hD1 ⟨by simp; exact hS.1, fun q g1 g2 => by
      rw [oq q (fun e => g2 (by rw [e]; exact hD.2 q1 _ ha1))]
      exact hS.2.1 q g1 g2, fun q hq => by
      rcases List.mem_append.mp hq with h | h
      · exact hS.2.2 q h
      · obtain ⟨z, -, hz⟩ := List.mem_map.mp h
        rw [← hz]
        exact hD.2 q1 _ ha1⟩ _ hheap X'
  exact ⟨t, step t a1, b1⟩
end ZRC
