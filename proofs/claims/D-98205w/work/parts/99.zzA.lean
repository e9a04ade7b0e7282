def R_law : String := "WindowHillLaw"
def lw_P (b : Addr) (xs : List Int32) (args : Array Value) (s : State) : Prop := args = #[.ref b] ∧ s.IntsAt b xs ∧ xs.length ≤ 384 ∧ (Jvm.Cond.and given_1 narrow_1).before args s = true
def lw_Q (_ : Array Value) (s : State) (o : Outcome) (t : State) : Prop := o = .returned (some (.int 1)) ∧ Framed s o t [] 601536 7248490
def lw_Z (below : List Frame) (a : Array Value) (s : State) : State → Prop := fun t => ∃ o, t.status = .running ∧ Ended t below o ∧ lw_Q a s o t
/-- the law's own end, with 1 on the stack, nothing written that was there before, its room as the claim has it -/
theorem lw_ret {p : Program} {l : Launch} {e : Env} {s : State} {m : MethodId} {below : List Frame} {meth : Method} {c : Code} {b : Nat} (hx : p.tables.exec = Jvm.exec) (hb : c.code = code) (hr : meth.sig.returnType = ret) (hlocks : meth.locks = false) {pc : Nat} {H : Heap} {ls : Array Slot} (hdg : decode code pc = .ok (.ireturn, 1)) : W p l e room_1 s m #[Value.ref b] below meth c H [] 601536 7248490 (lw_Z below #[Value.ref b] s) (F0 m pc ls [.int 1]) := by
  intro T hT X
  obtain ⟨fs, hret, hrun, hended, hW, hframe⟩ := X.leave (v := some (.int 1)) (hlocks := hlocks) (fun h => by rw [hr] at h; cases h)
  have hmeth' : T.vm.method? m = some meth := X.method'
  refine ⟨T.setFrames fs, ?_, .returned (some (.int 1)), hrun, hended, rfl, ⟨_, rfl⟩, hW, hframe⟩
  jvm_step X.here [X.here.top, hx, hb, hdg, hmeth', hr, ret, narrow_b1]
  (try refine ⟨rfl, ?_⟩); (try refine ⟨rfl, ?_⟩)
  first | (intro acts; rw [hret _ acts rfl rfl rfl]) | rw [hret _ _ rfl rfl rfl]
  exact Steps.refl _
/-- what holds at the law's entry: the machine, the code, the tables' words (any of lw_tbl by 'hts w (by decide +kernel)'), the script of L ints xs at the cell b, what the Statement gives of the start (any of its parts by flat_of_before) -/
def lw_At (p : Program) (s : State) (m : MethodId) (meth : Method) (c : Code) (b L : Nat) (xs : Nat → Int32) : Prop :=
  p.tables.exec = Jvm.exec ∧ c.code = code ∧ meth.sig.returnType = ret ∧ c.maxLocals = 4 ∧ s.vm.findClass R_law = some m.cls ∧ (∀ w ∈ lw_tbl, w.before #[Value.ref b] s = true) ∧ va_X b L xs s s.heap ∧ b < s.heap.size ∧ meth.locks = false ∧ (Jvm.Cond.and given_1 narrow_1).before #[Value.ref b] s = true
theorem hd_X0_live : yX0_live.cls = RX0 ∧ yX0_live.cls ≠ "java/lang/invoke/MethodHandle" ∧ yX0_live.cls ≠ "java/lang/invoke/VarHandle" ∧ (parseMethodDescriptor yX0_live.desc).map (fun d => d.parameters.length) = some 1 := by decide +kernel
theorem hd_X0_mean : yX0_mean.cls = RX0 ∧ yX0_mean.cls ≠ "java/lang/invoke/MethodHandle" ∧ yX0_mean.cls ≠ "java/lang/invoke/VarHandle" ∧ (parseMethodDescriptor yX0_mean.desc).map (fun d => d.parameters.length) = some 2 := by decide +kernel
section LAW0
variable {p : Program} {l : Launch} {e : Env} {R : Room} {s : State} {m : MethodId} {args : Array Value} {below : List Frame} {meth : Method} {c : Code} {H : Heap} {locs : List Loc} {cells slots : Nat} {Q : State → Prop}
variable {cc : ByteArray} {pc : Nat} {ls : Array Slot} {rest st : List Value} {G : zG} {A : Nat → Prop} {H0 : Heap} {ws ws' : va_W}
variable {Ts : List Cond} {wsy : List Cond} {bytes : ByteArray} {nL maxL index n mc ms : Nat} {own : String} {y : MethodName} {ret : Option FieldType} {rm : Room} {As : List Value} {a : Array Value}
/-- a call of a method that makes, and tells its world up to what it tells of itself -/
theorem zr_muEV {S : Type} {ff : S → Prop} {rr : S → Option Value} {w0 wr : va_W} {w1 wn : S → va_W} {b : Nat} {fs : List Value} {q : vw_C} (h1 : ws.Perm (wr ++ w0)) (h2 : ∀ u, (wr ++ w1 u).Perm (wn u)) (C0 : CallFix p m c cc nL s args Ts own) (hM : Met l y wsy rm (zPm G H.size (.ref b :: As) w0) (zQe G ff rr w1 (va_A w0 H.size)) mc ms (va_A w0 H.size)) (cw : CallW R s args own q.1 index y bytes maxL ret wsy rm mc ms n) (hP : va_P G.1 zcl ws H) (hD : va_D A ws) (hS : va_S A s.heap H locs) (hA : ∀ q : Nat, s.heap.size ≤ q → A q) (hK : KK G s) (hE : ZE G A s s.heap) (q0 ci : Nat) (hc : zcl[ci]? = some q) (he : w0[q0]? = some (b, .inr (ci, fs))) (hn : As.length = n) (hl : ls.size = nL) (hst : st = As.reverse ++ .ref b :: rest) (hW : (rest.map fun v => v.category).sum ≤ 8) (d : decode cc pc = .ok (.invokevirtual index, 3)) (hf : cells + mc ≤ R.cells ∧ slots + ms ≤ R.slots)
    (k : ∀ u : S, ff u → ∀ (H1 : Heap) (locs1 : List Loc), va_P G.1 zcl (wn u) H1 → va_D A (wn u) → va_S A s.heap H1 locs1 → H.size ≤ H1.size → W p l e R s m args below meth c H1 locs1 (cells + mc) (slots + ms) Q (F0 m (pc + 3) ls ((rr u).toList ++ rest))) : W p l e R s m args below meth c H locs cells slots Q (F0 m pc ls st) :=
  have hP0 : va_P G.1 zcl w0 H := zP_right (zP_perm h1 hP)
  have hD0 : va_D A w0 := zD_right (zD_perm h1 hD)
  zr_muE h1 h2 (va_runV C0 hM cw ⟨zPm_blind, va_recv hK.1 hP0 hc he, fun U hU hW => ⟨rfl, by rw [hU], by rw [hU]; exact hP0, zKK_warm hW hK, hD0.weaken (fun _ _ _ _ => trivial), zE_m hE hD0 hS hA hW hU⟩⟩ rfl hn hl hst (lv_room (pc := pc) (ls := ls) (rest := st) hW) d hf) hP hD hS hA k
end LAW0
/-- what holds all through the law -/
def lwC (p : Program) (l : Launch) (s : State) (m : MethodId) (meth : Method) (c : Code) (G : zG) (b L : Nat) (xs : Nat → Int32) (ax : Nat → Nat) (xtr : Nat → Option Nat) : Prop :=
  p.tables.exec = Jvm.exec ∧ c.code = code ∧ meth.sig.returnType = ret ∧ c.maxLocals = 4 ∧ s.vm.findClass R_law = some m.cls ∧ (∀ w ∈ lw_all, w.before #[Value.ref b] s = true) ∧ meth.locks = false ∧ KK G s ∧ ZE G (fun q : Nat => s.heap.size ≤ q) s s.heap ∧ va_X b L xs s s.heap ∧ b < s.heap.size ∧ l.stackTraces = false ∧ (∀ j, j < 4 → xtr j = some (ax (40 + j))) ∧ L ≤ 384
/-- the law goes on from a place, its loop's number i, its room so far -/
def lwG (p : Program) (l : Launch) (e : Env) (s : State) (m : MethodId) (below : List Frame) (meth : Method) (c : Code) (G : zG) (b : Nat) (ax : Nat → Nat) (xtr : Nat → Option Nat) (ad : Nat → Nat) (pc i C S : Nat) : Prop :=
  ∀ (w : va_W) (H : Heap) (locs : List Loc) (cells slots : Nat) (ls : Array Slot), LI G ax xtr ad w → va_P G.1 zcl w H → va_D (fun q : Nat => s.heap.size ≤ q) w → va_S (fun q : Nat => s.heap.size ≤ q) s.heap H locs → cells ≤ C → slots ≤ S → lv_has ls 4 [(0, .ref b), (1, .ref (ax 0)), (2, .ref (ad 0)), (3, .int (nI i))] → W p l e room_1 s m #[Value.ref b] below meth c H locs cells slots (lw_Z below #[Value.ref b] s) (F0 m pc ls [])
