def zST : List (String × Nat × String) := [("WindowHill$Reader", 76, "night"), ("WindowHill$Reader", 78, "turn"), ("WindowHill$Reader", 80, "mayor"), ("WindowHill$Reader", 82, "elect"), ("WindowHill$Reader", 84, "storm"), ("WindowHill$Reader", 86, "birth"), ("WindowHill$Reader", 88, "stop"), ("WindowHill$Reader", 90, "lit"), ("WindowHill$Reader", 92, "lamp"), ("WindowHill$Reader", 94, "same"), ("WindowHill$Reader", 96, "wide"), ("WindowHill$Reader", 98, "ring"), ("WindowHill$Reader", 100, "row"), ("WindowHill$Reader", 102, "rule"), ("WindowHill$Reader", 104, "born"), ("WindowHill$Reader", 106, "stays"), ("WindowHill$Reader", 108, "citizen"), ("WindowHill$Reader", 110, "likes"), ("WindowHill$Reader", 112, "to"), ("WindowHill$Reader", 120, "when"), ("WindowHill$Reader", 122, "loop"), ("WindowHill$Reader", 124, "end"), ("WindowHillModel", 174, " wide row rule citizen ring born stays likes to night turn mayor elect storm birth when loop end stop lit lamp same ")]
def zLen : List Nat := [5, 4, 5, 5, 5, 5, 4, 3, 4, 4, 4, 4, 3, 4, 4, 5, 7, 5, 2, 4, 4, 3, 116]
def zByt : List (List Int32) := [[110, 105, 103, 104, 116], [116, 117, 114, 110], [109, 97, 121, 111, 114], [101, 108, 101, 99, 116], [115, 116, 111, 114, 109], [98, 105, 114, 116, 104], [115, 116, 111, 112], [108, 105, 116], [108, 97, 109, 112], [115, 97, 109, 101], [119, 105, 100, 101], [114, 105, 110, 103], [114, 111, 119], [114, 117, 108, 101], [98, 111, 114, 110], [115, 116, 97, 121, 115], [99, 105, 116, 105, 122, 101, 110], [108, 105, 107, 101, 115], [116, 111], [119, 104, 101, 110], [108, 111, 111, 112], [101, 110, 100], [32, 119, 105, 100, 101, 32, 114, 111, 119, 32, 114, 117, 108, 101, 32, 99, 105, 116, 105, 122, 101, 110, 32, 114, 105, 110, 103, 32, 98, 111, 114, 110, 32, 115, 116, 97, 121, 115, 32, 108, 105, 107, 101, 115, 32, 116, 111, 32, 110, 105, 103, 104, 116, 32, 116, 117, 114, 110, 32, 109, 97, 121, 111, 114, 32, 101, 108, 101, 99, 116, 32, 115, 116, 111, 114, 109, 32, 98, 105, 114, 116, 104, 32, 119, 104, 101, 110, 32, 108, 111, 111, 112, 32, 101, 110, 100, 32, 115, 116, 111, 112, 32, 108, 105, 116, 32, 108, 97, 109, 112, 32, 115, 97, 109, 101, 32]]
def zFL : List (String × Nat × String × String × String) := [("WindowHill", 91, "WindowHill$Refused", "why", "I"), ("WindowHill", 110, "WindowHill$Tray", "row", "Ljava/lang/Object;"), ("WindowHill", 155, "WindowHill$House", "hill", "LWindowHill$Hill;"), ("WindowHill", 158, "WindowHill$Hill", "town", "LWindowHill$Town;"), ("WindowHill", 166, "WindowHill$Town", "wide", "I"), ("WindowHill", 175, "WindowHill$Town", "rows", "I"), ("WindowHill", 178, "WindowHill$Town", "rules", "I"), ("WindowHill", 181, "WindowHill$Town", "citizens", "I"), ("WindowHill", 215, "WindowHill$Bad", "kind", "I"), ("WindowHill", 218, "WindowHill$Bad", "place", "I"), ("WindowHill", 236, "WindowHill$Reader", "picture", "I"), ("WindowHill", 243, "WindowHill$House", "year", "LWindowHill$Loop;"), ("WindowHill", 247, "WindowHill$Town", "houses", "I"), ("WindowHill", 264, "WindowHill$Reader", "steps", "I"), ("WindowHill", 269, "WindowHill$Hill", "lit", "I"), ("WindowHill", 275, "WindowHill$Hill", "night", "I"), ("WindowHill", 278, "WindowHill$Hill", "oil", "I"), ("WindowHill", 285, "WindowHill$Hill", "mayor", "I"), ("WindowHill", 296, "WindowHill$Town", "beside", "[I"), ("WindowHill", 302, "WindowHill$Hill", "born", "[I"), ("WindowHill", 305, "WindowHill$Hill", "stays", "[I"), ("WindowHill", 311, "WindowHill$Town", "least", "[I"), ("WindowHill", 314, "WindowHill$Town", "most", "[I"), ("WindowHill", 371, "WindowHill$Town", "always", "I"), ("WindowHill", 429, "WindowHill$Hill", "seen", "[I"), ("WindowHill", 463, "WindowHill$Living", "missed", "I"), ("WindowHill", 466, "WindowHill$Living", "nights", "I"), ("WindowHill", 469, "WindowHill$Living", "storms", "I"), ("WindowHill", 472, "WindowHill$Living", "births", "I"), ("WindowHill", 475, "WindowHill$Living", "isLeft", "Z"), ("WindowHill", 482, "WindowHill$Living", "done", "I"), ("WindowHill$Act", 18, "WindowHill$Living", "hill", "LWindowHill$Hill;"), ("WindowHill$Act", 29, "WindowHill$Living", "nights", "I"), ("WindowHill$Act", 32, "WindowHill$Hill", "town", "LWindowHill$Town;"), ("WindowHill$Act", 42, "WindowHill$Hill", "lit", "I"), ("WindowHill$Act", 45, "WindowHill$Hill", "mayor", "I"), ("WindowHill$Act", 60, "WindowHill$Living", "isOver", "Z"), ("WindowHill$Act", 71, "WindowHill$Living", "storms", "I"), ("WindowHill$Act", 74, "WindowHill$Town", "wide", "I"), ("WindowHill$Act", 77, "WindowHill$Town", "rows", "I"), ("WindowHill$Act", 84, "WindowHill$Living", "births", "I"), ("WindowHill$Act", 91, "WindowHill$Living", "missed", "I"), ("WindowHill$Block", 23, "WindowHill$Living", "isOver", "Z"), ("WindowHill$Hill", 32, "WindowHill$Town", "born", "[I"), ("WindowHill$Hill", 39, "WindowHill$Town", "stays", "[I"), ("WindowHill$Hill", 43, "WindowHill$Town", "rules", "I"), ("WindowHill$Hill", 52, "WindowHill$Town", "always", "I"), ("WindowHill$Hill", 62, "WindowHill$Town", "beside", "[I"), ("WindowHill$Hill", 85, "WindowHill$Town", "least", "[I"), ("WindowHill$Hill", 88, "WindowHill$Town", "most", "[I"), ("WindowHill$Hill", 99, "WindowHill$Town", "citizens", "I"), ("WindowHill$Loop", 13, "WindowHill$Living", "isOver", "Z"), ("WindowHill$Reader", 22, "WindowHill", "tape", "[B"), ("WindowHill$Reader", 55, "WindowHill", "bad", "LWindowHill$Bad;"), ("WindowHill$Reader", 151, "WindowHill$Town", "wide", "I"), ("WindowHill$Reader", 153, "WindowHill$Town", "ring", "Z"), ("WindowHill$Reader", 159, "WindowHill$Town", "rows", "I"), ("WindowHill$Reader", 162, "WindowHill$Town", "houses", "I"), ("WindowHill$Reader", 178, "WindowHill$Town", "always", "I"), ("WindowHill$Reader", 181, "WindowHill$Town", "never", "I"), ("WindowHill$Reader", 187, "WindowHill$Town", "rules", "I"), ("WindowHill$Reader", 194, "WindowHill$Town", "born", "[I"), ("WindowHill$Reader", 201, "WindowHill$Town", "stays", "[I"), ("WindowHill$Reader", 203, "WindowHill$Town", "ruleNames", "[J"), ("WindowHill$Reader", 207, "WindowHill$Town", "citizens", "I"), ("WindowHill$Reader", 210, "WindowHill$Town", "least", "[I"), ("WindowHill$Reader", 213, "WindowHill$Town", "most", "[I"), ("WindowHill$Reader", 216, "WindowHill$Town", "citizenNames", "[J"), ("WindowHill$Step", 9, "WindowHill$Living", "done", "I"), ("WindowHill$Step", 15, "WindowHill$Living", "isOver", "Z"), ("WindowHill$Step", 19, "WindowHill$Living", "isLeft", "Z"), ("WindowHill$When", 21, "WindowHill$Hill", "lit", "I"), ("WindowHill$When", 35, "WindowHill$Living", "hill", "LWindowHill$Hill;")]
def zML : List (String × Nat × MethodName) := [("WindowHill", 17, ⟨"WindowHill$Tray", "<init>", "()V"⟩), ("WindowHill", 54, ⟨"WindowHill$House", "<init>", "()V"⟩), ("WindowHill", 73, ⟨"WindowHill$Hill", "<init>", "()V"⟩), ("WindowHill", 224, ⟨"WindowHill$Town", "<init>", "()V"⟩), ("WindowHill$Act", 3, ⟨"WindowHill$Step", "<init>", "()V"⟩), ("WindowHill$Block", 1, ⟨"WindowHill$Step", "<init>", "()V"⟩), ("WindowHill$Hill", 11, ⟨"WindowHill$Town", "<init>", "()V"⟩), ("WindowHill$House", 9, ⟨"WindowHill$Hill", "<init>", "()V"⟩), ("WindowHill$Loop", 1, ⟨"WindowHill$Block", "<init>", "()V"⟩), ("WindowHill$When", 3, ⟨"WindowHill$Block", "<init>", "()V"⟩)]
/-! zz: the layer of this proof: worlds of the claim's classes, contracts that answer one value, rows by Nat -/
set_option maxRecDepth 100000
abbrev zG : Type := va_G × (Nat → ClassId)
def zcl : List vw_C := [(RX0, TX0, 23), (RX1, TX1, 1), (RX2, TX2, 8), (RX3, TX3, 7), (RX4, TX4, 2), (RX5, TX5, 8), (RX6, TX6, 15), (RX7, TX7, 39), (RX8, TX8, 8), (RX11, TX11, 3), (RX12, TX12, 5), (RX13, TX13, 2), (RX14, TX14, 9)]
def zty (G : zG) : List (ClassId × FieldType) := [(G.2 0, .int), (G.2 1, .long), (G.2 2, .byte), (G.2 3, .short), (G.2 4, .object "WindowHill$Tray"), (G.2 5, .object "WindowHill$House"), (G.2 6, .object "WindowHill$Step"), (G.2 7, .array .long)]
def zAO : List String := ["WindowHill$Tray", "WindowHill$House", "WindowHill$Step"]
def zCA : List (String × String) := [("java/lang/NegativeArraySizeException", "java/lang/NegativeArraySizeException"), ("java/lang/ArrayIndexOutOfBoundsException", "java/lang/ArrayIndexOutOfBoundsException"), ("java/lang/ArrayIndexOutOfBoundsException", "java/lang/IndexOutOfBoundsException"), ("WindowHill$Loop", "WindowHill$Step"), ("WindowHill$When", "WindowHill$Step"), ("WindowHill$Act", "WindowHill$Step"), ("WindowHill$Bad", "WindowHill$Bad"), ("WindowHill$Refused", "WindowHill$Refused")]
def zDE : List MethodName := [⟨"java/lang/Throwable", "<init>", "()V"⟩, ⟨"java/lang/Throwable", "<init>", "(Ljava/lang/String;)V"⟩, ⟨"java/lang/Exception", "<init>", "()V"⟩, ⟨"java/lang/Exception", "<init>", "(Ljava/lang/String;)V"⟩, ⟨"java/lang/RuntimeException", "<init>", "()V"⟩, ⟨"java/lang/RuntimeException", "<init>", "(Ljava/lang/String;)V"⟩, ⟨"java/lang/IndexOutOfBoundsException", "<init>", "()V"⟩, ⟨"java/lang/IndexOutOfBoundsException", "<init>", "(Ljava/lang/String;)V"⟩, ⟨"WindowHill$Block", "all", "(LWindowHill$Living;)V"⟩, ⟨"WindowHill$Step", "does", "(LWindowHill$Living;)V"⟩]
def zNC : List (String × String) := [("[B", "[S"), ("[B", "[I"), ("[B", "[J"), ("[S", "[B"), ("[S", "[I"), ("[S", "[J"), ("[I", "[B"), ("[I", "[S"), ("[I", "[J"), ("[J", "[B"), ("[J", "[S"), ("[J", "[I"), ("WindowHill$Refused", "java/lang/NegativeArraySizeException"), ("WindowHill$Refused", "java/lang/ArrayIndexOutOfBoundsException"), ("WindowHill$Refused", "java/lang/IndexOutOfBoundsException"), ("WindowHill$Refused", "WindowHill$Bad"), ("java/lang/ArrayIndexOutOfBoundsException", "WindowHill$Refused"), ("java/lang/ArrayIndexOutOfBoundsException", "java/lang/NegativeArraySizeException"), ("java/lang/ArrayIndexOutOfBoundsException", "WindowHill$Bad"), ("java/lang/NegativeArraySizeException", "WindowHill$Refused"), ("java/lang/NegativeArraySizeException", "java/lang/ArrayIndexOutOfBoundsException"), ("java/lang/NegativeArraySizeException", "java/lang/IndexOutOfBoundsException"), ("java/lang/NegativeArraySizeException", "WindowHill$Bad"), ("WindowHill$Bad", "WindowHill$Refused"), ("WindowHill$Bad", "java/lang/NegativeArraySizeException"), ("WindowHill$Bad", "java/lang/ArrayIndexOutOfBoundsException"), ("WindowHill$Bad", "java/lang/IndexOutOfBoundsException")]
def zAL (U : State) : Prop := (Cond.arrayOver (.array .long)).before #[] U = true
def zKd (comp : ClassId) (x : Class) : Bool := match x.kind with
  | .array component _ => component == comp
  | _ => false
theorem zidx_bare (vm : Vm) (comp : ClassId) : vm.bare.classes.findIdx? (zKd comp) = vm.classes.findIdx? (zKd comp) := by
  simp only [Vm.bare, Array.findIdx?_map]
  rfl
theorem zAL_moved {u U : State} (hvm : u.vm.Alike U.vm) (h : zAL u) : zAL U := by
  have h0 : ∃ comp c k, u.vm.findClass (FieldType.array .long).toString = some comp ∧ (u.vm.classes.findIdx? (zKd comp)) = some c ∧ u.vm.classes[c]? = some k ∧ k.kind = .array comp (.array .long) ∧ u.vm.findClass ("[" ++ (FieldType.array .long).toString) = some c := by
    have h := h
    unfold zAL Cond.before at h
    simp only [Cond.holds, Cond.value, beq_iff_eq] at h
    cases hc : u.vm.findClass (FieldType.array .long).toString with
    | none => simp [hc] at h
    | some comp =>
      simp only [hc, Option.bind_some, Option.bind_eq_some_iff, Option.map_eq_some_iff] at h
      obtain ⟨c, hi, k, hk, hb⟩ := h
      obtain ⟨hlt, hp, -⟩ := Array.findIdx?_eq_some_iff_getElem.mp hi
      have hkk : u.vm.classes[c] = k := (Array.getElem?_eq_some_iff.mp hk).2
      rw [hkk] at hp
      cases hkind : k.kind with
      | array component ty =>
        rw [hkind] at hb hp
        simp at hb hp
        exact ⟨comp, c, k, rfl, hi, hk, by rw [hkind, hp, hb.1], hb.2⟩
      | _ => rw [hkind] at hb; simp at hb
  obtain ⟨comp, c, k, h1, h2, h3, h4, h5⟩ := h0
  obtain ⟨k', hk', he⟩ := hvm.2.2 _ _ h3
  have hi : (U.vm.classes.findIdx? (zKd comp)) = some c := by
    rw [← zidx_bare]
    first | rw [hvm.bare_eq] | rw [← hvm.bare_eq]
    rw [zidx_bare]
    exact h2
  have hkind : k'.kind = .array comp (.array .long) := by rw [he]; exact h4
  have f1 : U.vm.findClass (FieldType.array .long).toString = some comp := by rw [hvm.findClass]; exact h1
  have f2 : U.vm.findClass ("[" ++ (FieldType.array .long).toString) = some c := by rw [hvm.findClass]; exact h5
  unfold zAL Cond.before Cond.holds
  simp only [Cond.value]
  rw [f1, Option.bind_some]
  refine (congrArg (fun o : Option Nat => (o.bind (fun c => (U.vm.classes[c]?).map fun (k : Class) => match k.kind with | .array _ ty => decide (ty = FieldType.array .long) && decide (U.vm.findClass ("[" ++ (FieldType.array .long).toString) = some c) | _ => false) == some true)) hi).trans ?_
  simp [hk', hkind, f2]
def zXN (U : State) : Prop := (∀ q ∈ zFL, va_Nw (.fieldLinkNest q.1 q.2.1 q.2.2.1 q.2.2.2.1 q.2.2.2.2 "WindowHill") U) ∧ (∀ q ∈ zML, va_Nw (.methodLinkNest q.1 q.2.1 q.2.2 "WindowHill") U) ∧ (∀ C ∈ zAO, va_AO C U) ∧ zAL U ∧ (∀ q ∈ zCA, va_Nw (.castable q.1 q.2) U) ∧ (∀ x ∈ zDE, va_Nw (.declares x) U) ∧ (∀ q ∈ zNC, va_Nc q.1 q.2 U)
theorem zXN_warm {s U : State} (hW : s.WarmedH U.vm) (h : zXN s) : zXN U := ⟨fun q hq => (h.1 q hq).warmF hW, fun q hq => (h.2.1 q hq).warmM hW, fun C hC => (h.2.2.1 C hC).moved hW.alike, zAL_moved hW.alike h.2.2.2.1, fun q hq => (h.2.2.2.2.1 q hq).warmC hW, fun x hx => (h.2.2.2.2.2.1 x hx).warmD hW, fun q hq => (h.2.2.2.2.2.2 q hq).moved hW.alike⟩
theorem zAlk {s U : State} (hv : s.vm = U.vm) : s.vm.Alike U.vm := hv ▸ Vm.Alike.refl s.vm
theorem zXN_same {s U : State} (hv : s.vm = U.vm) (h : zXN s) : zXN U := ⟨fun q hq => (h.1 q hq).same rfl hv, fun q hq => (h.2.1 q hq).same rfl hv, fun C hC => (h.2.2.1 C hC).moved (zAlk hv), zAL_moved (zAlk hv) h.2.2.2.1, fun q hq => (h.2.2.2.2.1 q hq).same rfl hv, fun x hx => (h.2.2.2.2.2.1 x hx).same rfl hv, fun q hq => (h.2.2.2.2.2.2 q hq).moved (zAlk hv)⟩
/-- the literals' addresses ride in G -/
abbrev zK (G : zG) : Nat → Nat := fun i => G.2 (100 + i)
abbrev zV (G : zG) : Nat → Nat := fun i => G.2 (200 + i)
def zSR (G : zG) (U : State) : Prop := ∀ (i : Nat) (q : String × Nat × String), zST[i]? = some q → vk_R q.1 q.2.1 q.2.2 (zK G i) U
def KK (G : zG) (U : State) : Prop := va_K G.1 zcl (zty G) U ∧ zXN U ∧ zSR G U
/-- what stands in the heap and isn't ours: the literals, a static of String -/
def ZE (G : zG) (A : Nat → Prop) (U : State) (H : Heap) : Prop := vk_S 23 zLen zByt (zK G) (zV G) A U H ∧ va_Z "java/lang/String" "COMPACT_STRINGS" "Z" (.int 1) A U H ∧ va_Zq "jdk/internal/util/Preconditions" "SIOOBE_FORMATTER" "Ljava/util/function/BiFunction;" A U H ∧ vx_Zq Bundle.tN "UNASSIGNED_STACK" Bundle.steD A U H ∧ vx_Zq Bundle.tN "SUPPRESSED_SENTINEL" Bundle.listD A U H
theorem zE_moved {G : zG} {A : Nat → Prop} {u U : State} {H : Heap} (hvm : u.vm.Alike U.vm) (h : ZE G A u H) : ZE G A U H := ⟨h.1.moved hvm, h.2.1.moved hvm, h.2.2.1.moved hvm, h.2.2.2.1.moved hvm, h.2.2.2.2.moved hvm⟩
theorem zE_kept {G : zG} {A : Nat → Prop} {U : State} {H H1 : Heap} (h : ZE G A U H) (hq : ∀ a : Nat, a < H.size → ¬ A a → H1[a]? = H[a]?) : ZE G A U H1 := ⟨h.1.kept hq, h.2.1.kept hq, h.2.2.1.kept hq, h.2.2.2.1.kept hq, h.2.2.2.2.kept hq⟩
theorem zE_narrow {G : zG} {A B : Nat → Prop} {U : State} {H : Heap} (h : ZE G A U H) (hAB : ∀ q, B q → A q) : ZE G B U H := ⟨h.1.narrow hAB, h.2.1.narrow hAB, h.2.2.1.narrow hAB, h.2.2.2.1.narrow hAB, h.2.2.2.2.narrow hAB⟩
theorem zE_o {G : zG} {A : Nat → Prop} {s : State} {H : Heap} {locs : List Loc} (h : ZE G A s s.heap) (hS : va_S A s.heap H locs) : ZE G (fun _ => False) s H := zE_narrow (zE_kept h hS.2.1) (fun _ q => q.elim)
theorem zKK_warm {G : zG} {s U : State} (hW : s.WarmedH U.vm) (h : KK G s) : KK G U := ⟨va_K.moved hW.alike h.1, zXN_warm hW h.2.1, fun i q hq => (h.2.2 i q hq).warm hW⟩
theorem zKK_call {G : zG} {U : State} {g : JFrame} {mk : MethodId} {a : Array Value} (h : KK G U) : KK G (U.calling g mk a) := ⟨va_K.moved (u := U) (U := U.calling g mk a) (Vm.Alike.refl U.vm) h.1, zXN_same rfl h.2.1, fun i q hq => (h.2.2 i q hq).same rfl⟩
abbrev zR (d mc ms : Nat) : Room := { frames := d, cells := mc, slots := ms, locals := 64 * d }
def zC (p : Program) (s : State) (m : MethodId) (meth : Method) (c : Code) (cc : ByteArray) (maxL : Nat) (ret : Option FieldType) (y : MethodName) (args : Array Value) : Prop :=
  p.tables.exec = Jvm.exec ∧ c.code = cc ∧ meth.sig.returnType = ret ∧ c.maxLocals = maxL ∧ s.vm.findClass y.cls = some m.cls ∧ (∀ w ∈ lw_all, w.before args s = true) ∧ meth.locks = false ∧ meth.name = y.name
/-- a pure method's start -/
def zPp (av : List Value) : Array Value → State → Prop := va_Pc av (fun _ => True)
/-- a start that is only read -/
def zPo (G : zG) (av : List Value) (ws : va_W) : Array Value → State → Prop := va_Pc av (fun U => va_P G.1 zcl ws U.heap ∧ KK G U ∧ ZE G (fun _ => False) U U.heap)
/-- a start that is changed -/
def zPm (G : zG) (sz : Nat) (av : List Value) (ws : va_W) : Array Value → State → Prop := va_Pc av (fun U => U.heap.size = sz ∧ va_P G.1 zcl ws U.heap ∧ KK G U ∧ va_D (fun _ => True) ws ∧ ZE G (va_A ws sz) U U.heap)
/-- an end: the answer, the world -/
def zQm (G : zG) (F : Prop) (r : Option Value) (ws : va_W) (A : Nat → Prop) : Array Value → State → Outcome → State → Prop := fun _ st oc t => (oc = .returned r ∧ F ∧ va_P G.1 zcl ws t.heap ∧ va_D A ws) ∧ va_F A st t
theorem zPp_blind {av : List Value} : FrameBlind (zPp av) := fun _ _ _ _ h => ⟨h.1, trivial⟩
theorem zPo_blind {G : zG} {av : List Value} {ws : va_W} : FrameBlind (zPo G av ws) := fun _ U g mk h => ⟨h.1, h.2.1, zKK_call h.2.2.1, zE_moved (u := U) (U := U.calling g mk _) (Vm.Alike.refl U.vm) h.2.2.2⟩
theorem zPm_blind {G : zG} {sz : Nat} {av : List Value} {ws : va_W} : FrameBlind (zPm G sz av ws) := fun _ U g mk h => ⟨h.1, h.2.1, h.2.2.1, zKK_call h.2.2.2.1, h.2.2.2.2.1, zE_moved (u := U) (U := U.calling g mk _) (Vm.Alike.refl U.vm) h.2.2.2.2.2⟩
theorem zr_entP {l : Launch} {av : List Value} {r : Value} {y : MethodName} {cc : ByteArray} {maxL : Nat} {ret : Option FieldType} {rm : Room} (hy : plainName y.cls = true) (hlen : (lg_sl av).length ≤ maxL)
    (body : ∀ (p : Program) (e : Env) (s : State) (m : MethodId) (below : List Frame) (meth : Method) (c : Code), zC p s m meth c cc maxL ret y av.toArray → ∀ ls : Array Slot, lv_has ls maxL (lv_args 0 av) → W p l e rm s m av.toArray below meth c s.heap [] 0 0 (MQ below (k2_QcV r) av.toArray s 0 0 (fun _ => False)) (F0 m 0 ls [])) :
    Met l y (ws_ y cc maxL ret) rm (zPp av) (k2_QcV r) 0 0 (fun _ => False) := by
  refine Met.ofW (cc := cc) (maxL := maxL) (ret := ret) hy rfl ?_
  intro p e s m args below meth c s₁ B hml hv
  obtain ⟨rfl, -⟩ := hv
  have hts := atoms_spec (ws := ws_ y cc maxL ret) B.pre
  have hl := lv_entry av (n := maxL) hlen
  rw [lg_entry_eq]
  exact body p e s m below meth c ⟨B.exec, B.bytes, B.returns, hml, findClass_of_methodNamed B.named, fun w h => hts w (List.mem_cons_of_mem _ h), B.notSynchronized, (name_of_methodNamed B.named B.method).1⟩ _ hl
theorem zr_entO {l : Launch} {G : zG} {av : List Value} {ws : va_W} {r : Value} {y : MethodName} {cc : ByteArray} {maxL : Nat} {ret : Option FieldType} {rm : Room} (hy : plainName y.cls = true) (hlen : (lg_sl av).length ≤ maxL)
    (body : ∀ (p : Program) (e : Env) (s : State) (m : MethodId) (below : List Frame) (meth : Method) (c : Code), zC p s m meth c cc maxL ret y av.toArray → ∀ ls : Array Slot, lv_has ls maxL (lv_args 0 av) → va_P G.1 zcl ws s.heap → KK G s → ZE G (fun _ => False) s s.heap → W p l e rm s m av.toArray below meth c s.heap [] 0 0 (MQ below (k2_QcV r) av.toArray s 0 0 (fun _ => False)) (F0 m 0 ls [])) :
    Met l y (ws_ y cc maxL ret) rm (zPo G av ws) (k2_QcV r) 0 0 (fun _ => False) := by
  refine Met.ofW (cc := cc) (maxL := maxL) (ret := ret) hy rfl ?_
  intro p e s m args below meth c s₁ B hml hv
  obtain ⟨rfl, hP, hK, hE⟩ := hv
  have hts := atoms_spec (ws := ws_ y cc maxL ret) B.pre
  have hl := lv_entry av (n := maxL) hlen
  rw [lg_entry_eq]
  exact body p e s m below meth c ⟨B.exec, B.bytes, B.returns, hml, findClass_of_methodNamed B.named, fun w h => hts w (List.mem_cons_of_mem _ h), B.notSynchronized, (name_of_methodNamed B.named B.method).1⟩ _ hl hP hK hE
theorem zr_entM {l : Launch} {G : zG} {sz : Nat} {av : List Value} {ws ws' : va_W} {F : Prop} {r : Option Value} {y : MethodName} {cc : ByteArray} {maxL mc ms : Nat} {ret : Option FieldType} {rm : Room} (hy : plainName y.cls = true) (hlen : (lg_sl av).length ≤ maxL)
    (body : ∀ (p : Program) (e : Env) (s : State) (m : MethodId) (below : List Frame) (meth : Method) (c : Code), zC p s m meth c cc maxL ret y av.toArray → ∀ ls : Array Slot, lv_has ls maxL (lv_args 0 av) → va_P G.1 zcl ws s.heap → KK G s → ∀ A : Nat → Prop, ZE G A s s.heap → (∀ q : Nat, s.heap.size ≤ q → A q) → va_D A ws → va_S A s.heap s.heap [] → W p l e rm s m av.toArray below meth c s.heap [] 0 0 (MQ below (zQm G F r ws' A) av.toArray s mc ms A) (F0 m 0 ls [])) :
    Met l y (ws_ y cc maxL ret) rm (zPm G sz av ws) (zQm G F r ws' (va_A ws sz)) mc ms (va_A ws sz) := by
  refine Met.ofW (cc := cc) (maxL := maxL) (ret := ret) hy rfl ?_
  intro p e s m args below meth c s₁ B hml hv
  obtain ⟨rfl, hsz, hP, hK, hD, hE⟩ := hv
  have hts := atoms_spec (ws := ws_ y cc maxL ret) B.pre
  have hl := lv_entry av (n := maxL) hlen
  rw [lg_entry_eq]
  subst hsz
  exact body p e s m below meth c ⟨B.exec, B.bytes, B.returns, hml, findClass_of_methodNamed B.named, fun w h => hts w (List.mem_cons_of_mem _ h), B.notSynchronized, (name_of_methodNamed B.named B.method).1⟩ _ hl hP hK _ hE (fun q h => Or.inr h) (hD.self (sz := s.heap.size)) va_S.rf
section ZR
variable {p : Program} {l : Launch} {e : Env} {R : Room} {s : State} {m : MethodId} {args : Array Value} {below : List Frame} {meth : Method} {c : Code} {H : Heap} {locs : List Loc} {cells slots : Nat} {Q : State → Prop}
variable {cc : ByteArray} {pc : Nat} {ls : Array Slot} {rest st : List Value} {G : zG} {A : Nat → Prop} {H0 : Heap} {ws ws' : va_W}
theorem zr_oi {v : Int32} {r : Value} (hx : p.tables.exec = Jvm.exec) (hb : c.code = cc) (hr : meth.sig.returnType = some .int) (hlocks : meth.locks = false) (d : decode cc pc = .ok (.ireturn, 1)) (h : r = .int v) : W p l e R s m args below meth c s.heap [] 0 0 (MQ below (k2_QcV r) args s 0 0 (fun _ => False)) (F0 m pc ls [.int v]) := by
  subst h
  exact W.iret hx hb hr (fun t ht _ => ⟨rfl, ht⟩) (fun q h => by cases h) d hlocks
theorem zr_oz {v : Int32} {r : Value} {ty : FieldType} (hx : p.tables.exec = Jvm.exec) (hb : c.code = cc) (hr : meth.sig.returnType = some ty) (hlocks : meth.locks = false) (d : decode cc pc = .ok (.ireturn, 1)) (hn : narrow ty (.int v) = .int v) (h : r = .int v) : W p l e R s m args below meth c s.heap [] 0 0 (MQ below (k2_QcV r) args s 0 0 (fun _ => False)) (F0 m pc ls [.int v]) := by
  subst h
  exact W.zret hx hb hr hn (fun t ht _ => ⟨rfl, ht⟩) (fun q h => by cases h) d hlocks
theorem zr_ol {v : Int64} {r : Value} (hx : p.tables.exec = Jvm.exec) (hb : c.code = cc) (hr : meth.sig.returnType = some .long) (hlocks : meth.locks = false) (d : decode cc pc = .ok (.lreturn, 1)) (h : r = .long v) : W p l e R s m args below meth c s.heap [] 0 0 (MQ below (k2_QcV r) args s 0 0 (fun _ => False)) (F0 m pc ls [.long v]) := by
  subst h
  exact W.lret hx hb hr (fun t ht _ => ⟨rfl, ht⟩) (fun q h => by cases h) d hlocks
theorem zr_oa {v : Nat} {r : Value} {ty : String} (hx : p.tables.exec = Jvm.exec) (hb : c.code = cc) (hr : meth.sig.returnType = some (.object ty)) (hlocks : meth.locks = false) (d : decode cc pc = .ok (.areturn, 1)) (h : r = .ref v) : W p l e R s m args below meth c s.heap [] 0 0 (MQ below (k2_QcV r) args s 0 0 (fun _ => False)) (F0 m pc ls [.ref v]) := by
  subst h
  exact W.aret hx hb hr (Or.inl ⟨_, rfl⟩) (Or.inr ⟨_, rfl⟩) (fun t ht _ => ⟨rfl, ht⟩) (fun q h => by cases h) d hlocks
theorem zr_mi {F : Prop} {v : Int32} {r : Option Value} (hx : p.tables.exec = Jvm.exec) (hb : c.code = cc) (hr : meth.sig.returnType = some .int) (hlocks : meth.locks = false) (hP : va_P G.1 zcl ws H) (hD : va_D A ws) (hS : va_S A s.heap H locs) (d : decode cc pc = .ok (.ireturn, 1)) (h : r = some (.int v)) (hw : ws' = ws) (hF : F) : W p l e R s m args below meth c H locs cells slots (MQ below (zQm G F r ws' A) args s cells slots A) (F0 m pc ls [.int v]) := by
  subst h; subst hw
  exact W.iret hx hb hr (fun t ht _ => ⟨⟨rfl, hF, by rw [ht]; exact hP, hD⟩, hS.F ht⟩) hS.2.2 d hlocks
theorem zr_mz {F : Prop} {v : Int32} {r : Option Value} {ty : FieldType} (hx : p.tables.exec = Jvm.exec) (hb : c.code = cc) (hr : meth.sig.returnType = some ty) (hlocks : meth.locks = false) (hP : va_P G.1 zcl ws H) (hD : va_D A ws) (hS : va_S A s.heap H locs) (d : decode cc pc = .ok (.ireturn, 1)) (hn : narrow ty (.int v) = .int v) (h : r = some (.int v)) (hw : ws' = ws) (hF : F) : W p l e R s m args below meth c H locs cells slots (MQ below (zQm G F r ws' A) args s cells slots A) (F0 m pc ls [.int v]) := by
  subst h; subst hw
  exact W.zret hx hb hr hn (fun t ht _ => ⟨⟨rfl, hF, by rw [ht]; exact hP, hD⟩, hS.F ht⟩) hS.2.2 d hlocks
theorem zr_ml {F : Prop} {v : Int64} {r : Option Value} (hx : p.tables.exec = Jvm.exec) (hb : c.code = cc) (hr : meth.sig.returnType = some .long) (hlocks : meth.locks = false) (hP : va_P G.1 zcl ws H) (hD : va_D A ws) (hS : va_S A s.heap H locs) (d : decode cc pc = .ok (.lreturn, 1)) (h : r = some (.long v)) (hw : ws' = ws) (hF : F) : W p l e R s m args below meth c H locs cells slots (MQ below (zQm G F r ws' A) args s cells slots A) (F0 m pc ls [.long v]) := by
  subst h; subst hw
  exact W.lret hx hb hr (fun t ht _ => ⟨⟨rfl, hF, by rw [ht]; exact hP, hD⟩, hS.F ht⟩) hS.2.2 d hlocks
theorem zr_mv {F : Prop} {r : Option Value} (hx : p.tables.exec = Jvm.exec) (hb : c.code = cc) (hr : meth.sig.returnType = none) (hlocks : meth.locks = false) (hP : va_P G.1 zcl ws H) (hD : va_D A ws) (hS : va_S A s.heap H locs) (d : decode cc pc = .ok (.return_, 1)) (h : r = none) (hw : ws' = ws) (hF : F) : W p l e R s m args below meth c H locs cells slots (MQ below (zQm G F r ws' A) args s cells slots A) (F0 m pc ls []) := by
  subst h; subst hw
  exact W.vret hx hb hr (fun t ht _ => ⟨⟨rfl, hF, by rw [ht]; exact hP, hD⟩, hS.F ht⟩) hS.2.2 d hlocks
variable {Ts : List Cond} {wsy ws9 : List Cond} {bytes : ByteArray} {nL maxL index n mc ms : Nat} {own C : String} {y : MethodName} {ret : Option FieldType} {rm : Room} {As : List Value} {r : Value}
/-- a call of a pure static method -/
theorem zr_puS (C0 : CallFix p m c cc nL s args Ts own) (hM : Met l y wsy rm (zPp As) (k2_QcV r) 0 0 (fun _ => False)) (cw : CallB R s args own index y bytes maxL ret wsy rm 0 0 n ∧ (Cond.static y).before args s = true) (hn : As.length = n) (hl : ls.size = nL) (hst : st = As.reverse ++ rest) (hW : (rest.map fun v => v.category).sum ≤ 8) (d : decode cc pc = .ok (.invokestatic index, 3)) (hf : cells + 0 ≤ R.cells ∧ slots + 0 ≤ R.slots)
    (k : W p l e R s m args below meth c H locs cells slots Q (F0 m (pc + 3) ls (r :: rest))) : W p l e R s m args below meth c H locs cells slots Q (F0 m pc ls st) :=
  W.callV (W.runS C0 hM cw ⟨zPp_blind, fun _ _ _ => ⟨rfl, trivial⟩⟩ rfl hn hl hst (lv_room (pc := pc) (ls := ls) (rest := st) hW) d hf) k
/-- a call of a method that only reads, by its object -/
theorem zr_obV {w0 : va_W} {b : Nat} {fs : List Value} {q : vw_C} (C0 : CallFix p m c cc nL s args Ts own) (hM : Met l y wsy rm (zPo G (.ref b :: As) w0) (k2_QcV r) 0 0 (fun _ => False)) (cw : CallW R s args own q.1 index y bytes maxL ret wsy rm 0 0 n) (hP : va_P G.1 zcl w0 H) (hK : KK G s) (hE : ZE G (fun _ => False) s H) (q0 ci : Nat) (hc : zcl[ci]? = some q) (he : w0[q0]? = some (b, .inr (ci, fs))) (hn : As.length = n) (hl : ls.size = nL) (hst : st = As.reverse ++ .ref b :: rest) (hW : (rest.map fun v => v.category).sum ≤ 8) (d : decode cc pc = .ok (.invokevirtual index, 3)) (hf : cells + 0 ≤ R.cells ∧ slots + 0 ≤ R.slots)
    (k : W p l e R s m args below meth c H locs cells slots Q (F0 m (pc + 3) ls (r :: rest))) : W p l e R s m args below meth c H locs cells slots Q (F0 m pc ls st) :=
  W.callV (W.runV C0 hM cw ⟨zPo_blind, va_recv hK.1 hP hc he, fun U hU hW => ⟨rfl, by rw [hU]; exact hP, zKK_warm hW hK, by rw [hU]; exact zE_moved hW.alike hE⟩⟩ rfl hn hl hst (lv_room (pc := pc) (ls := ls) (rest := st) hW) d hf) k
theorem zr_obS {w0 : va_W} (C0 : CallFix p m c cc nL s args Ts own) (hM : Met l y wsy rm (zPo G As w0) (k2_QcV r) 0 0 (fun _ => False)) (cw : CallB R s args own index y bytes maxL ret wsy rm 0 0 n ∧ (Cond.static y).before args s = true) (hP : va_P G.1 zcl w0 H) (hK : KK G s) (hE : ZE G (fun _ => False) s H) (hn : As.length = n) (hl : ls.size = nL) (hst : st = As.reverse ++ rest) (hW : (rest.map fun v => v.category).sum ≤ 8) (d : decode cc pc = .ok (.invokestatic index, 3)) (hf : cells + 0 ≤ R.cells ∧ slots + 0 ≤ R.slots)
    (k : W p l e R s m args below meth c H locs cells slots Q (F0 m (pc + 3) ls (r :: rest))) : W p l e R s m args below meth c H locs cells slots Q (F0 m pc ls st) :=
  W.callV (W.runS C0 hM cw ⟨zPo_blind, fun U hU hW => ⟨rfl, by rw [hU]; exact hP, zKK_warm hW hK, by rw [hU]; exact zE_moved hW.alike hE⟩⟩ rfl hn hl hst (lv_room (pc := pc) (ls := ls) (rest := st) hW) d hf) k
/-- what a call that changes its world leaves -/
theorem zr_muK {F : Prop} {w0 w1 : va_W} {r : Option Value} {a : Array Value} (hr : va_Run p l e R s m args below meth c H locs cells slots mc ms (F0 m pc ls st) rest (zQm G F r w1 (va_A w0 H.size) a) (va_A w0 H.size)) (hD : va_D A w0) (hS : va_S A H0 H locs) (hA : ∀ q : Nat, H0.size ≤ q → A q)
    (k : F → ∀ (H1 : Heap) (locs1 : List Loc), va_P G.1 zcl w1 H1 → va_D A w1 → va_S A H0 H1 locs1 → H.size ≤ H1.size → W p l e R s m args below meth c H1 locs1 (cells + mc) (slots + ms) Q (F0 m (pc + 3) ls (r.toList ++ rest))) : W p l e R s m args below meth c H locs cells slots Q (F0 m pc ls st) := by
  have hAA : ∀ q, va_A w0 H.size q → A q := by
    intro q h
    rcases h with ⟨k, e, hk⟩ | h
    · exact hD.2 k _ hk
    · exact hA q (Nat.le_trans hS.1 h)
  intro T hT X
  obtain ⟨v, st₀, t, T', L, h0, X', hL, e1, e2, ⟨⟨hv, hF, hp, hd⟩, hz, hk⟩, stp⟩ := hr T hT X
  cases hv
  rw [h0] at hz hk
  have hS1 : va_S A H0 T'.heap (locs ++ L) := ⟨Nat.le_trans hS.1 (by rw [e1]; exact hz), fun q h1 h2 => by rw [e1, hk q (Nat.lt_of_lt_of_le h1 hS.1) (fun z => h2 (hAA q z))]; exact hS.2.1 q h1 h2, fun q hq => by
      rcases List.mem_append.mp hq with h | h
      · exact hS.2.2 q h
      · exact hAA _ (hL q h)⟩
  obtain ⟨t2, a1, b1⟩ := k hF T'.heap (locs ++ L) (by rw [e1]; exact hp) ⟨hd.1, fun k q hq => hAA _ (hd.2 k q hq)⟩ hS1 (by rw [e1]; exact hz) T' rfl X'
  exact ⟨t2, stp t2 a1, b1⟩
theorem zE_m {w0 : va_W} {U : State} (hE : ZE G A s s.heap) (hD : va_D A w0) (hS : va_S A s.heap H locs) (hA : ∀ q : Nat, s.heap.size ≤ q → A q) (hW : s.WarmedH U.vm) (hU : U.heap = H) : ZE G (va_A w0 H.size) U U.heap := by
  rw [hU]
  refine zE_moved hW.alike (zE_narrow (zE_kept hE hS.2.1) ?_)
  intro q h
  rcases h with ⟨k, e, hk⟩ | h
  · exact hD.2 k _ hk
  · exact hA q (Nat.le_trans hS.1 h)
theorem zr_muV {τ : Type} {F : τ} {ff : τ → Prop} {rr : τ → Option Value} {w0 : va_W} {w1 : τ → va_W} {b : Nat} {fs : List Value} {q : vw_C} (C0 : CallFix p m c cc nL s args Ts own) (hM : Met l y wsy rm (zPm G H.size (.ref b :: As) w0) (zQm G (ff F) (rr F) (w1 F) (va_A w0 H.size)) mc ms (va_A w0 H.size)) (cw : CallW R s args own q.1 index y bytes maxL ret wsy rm mc ms n) (hP : va_P G.1 zcl w0 H) (hD : va_D A w0) (hS : va_S A s.heap H locs) (hA : ∀ q : Nat, s.heap.size ≤ q → A q) (hK : KK G s) (hE : ZE G A s s.heap) (q0 ci : Nat) (hc : zcl[ci]? = some q) (he : w0[q0]? = some (b, .inr (ci, fs))) (hn : As.length = n) (hl : ls.size = nL) (hst : st = As.reverse ++ .ref b :: rest) (hW : (rest.map fun v => v.category).sum ≤ 8) (d : decode cc pc = .ok (.invokevirtual index, 3)) (hf : cells + mc ≤ R.cells ∧ slots + ms ≤ R.slots)
    (k : ∀ t : τ, F = t → ff t → ∀ (H1 : Heap) (locs1 : List Loc), va_P G.1 zcl (w1 t) H1 → va_D A (w1 t) → va_S A s.heap H1 locs1 → H.size ≤ H1.size → W p l e R s m args below meth c H1 locs1 (cells + mc) (slots + ms) Q (F0 m (pc + 3) ls ((rr t).toList ++ rest))) : W p l e R s m args below meth c H locs cells slots Q (F0 m pc ls st) :=
  zr_muK (va_runV C0 hM cw ⟨zPm_blind, va_recv hK.1 hP hc he, fun U hU hW => ⟨rfl, by rw [hU], by rw [hU]; exact hP, zKK_warm hW hK, hD.weaken (fun _ _ _ _ => trivial), zE_m hE hD hS hA hW hU⟩⟩ rfl hn hl hst (lv_room (pc := pc) (ls := ls) (rest := st) hW) d hf) hD hS hA (k F rfl)
theorem zr_muI {τ : Type} {F : τ} {ff : τ → Prop} {rr : τ → Option Value} {w0 : va_W} {w1 : τ → va_W} {b : Nat} (C0 : CallFix p m c cc nL s args Ts own) (hM : Met l y wsy rm (zPm G H.size (.ref b :: As) w0) (zQm G (ff F) (rr F) (w1 F) (va_A w0 H.size)) mc ms (va_A w0 H.size)) (cw : CallB R s args own index y bytes maxL none wsy rm mc ms n ∧ y.name = "<init>" ∧ (Cond.instanceMethod y).before args s = true) (hP : va_P G.1 zcl w0 H) (hD : va_D A w0) (hS : va_S A s.heap H locs) (hA : ∀ q : Nat, s.heap.size ≤ q → A q) (hK : KK G s) (hE : ZE G A s s.heap) (hn : As.length = n) (hl : ls.size = nL) (hst : st = As.reverse ++ .ref b :: rest) (hW : (rest.map fun v => v.category).sum ≤ 8) (d : decode cc pc = .ok (.invokespecial index, 3)) (hf : cells + mc ≤ R.cells ∧ slots + ms ≤ R.slots)
    (k : ∀ t : τ, F = t → ff t → ∀ (H1 : Heap) (locs1 : List Loc), va_P G.1 zcl (w1 t) H1 → va_D A (w1 t) → va_S A s.heap H1 locs1 → H.size ≤ H1.size → W p l e R s m args below meth c H1 locs1 (cells + mc) (slots + ms) Q (F0 m (pc + 3) ls ((rr t).toList ++ rest))) : W p l e R s m args below meth c H locs cells slots Q (F0 m pc ls st) :=
  zr_muK (va_runI C0 hM cw ⟨zPm_blind, fun U hU hW => ⟨rfl, by rw [hU], by rw [hU]; exact hP, zKK_warm hW hK, hD.weaken (fun _ _ _ _ => trivial), zE_m hE hD hS hA hW hU⟩⟩ rfl hn hl hst (lv_room (pc := pc) (ls := ls) (rest := st) hW) d hf) hD hS hA (k F rfl)
/-! numbers -/
theorem zr_val {v v' : Value} (h : v = v') (k : W p l e R s m args below meth c H locs cells slots Q (F0 m pc ls (v' :: rest))) : W p l e R s m args below meth c H locs cells slots Q (F0 m pc ls (v :: rest)) := by rw [h]; exact k
theorem zr_iaddN (a b : Nat) (hx : p.tables.exec = Jvm.exec) (hb : c.code = cc) (d : decode cc pc = .ok (.iadd, 1)) (k : W p l e R s m args below meth c H locs cells slots Q (F0 m (pc + 1) ls (.int (nI (a + b)) :: rest))) : W p l e R s m args below meth c H locs cells slots Q (F0 m pc ls (.int (nI b) :: .int (nI a) :: rest)) := lv_iadd hx hb d (by rw [nI_add]; exact k)
theorem zr_imulN (a b : Nat) (hx : p.tables.exec = Jvm.exec) (hb : c.code = cc) (d : decode cc pc = .ok (.imul, 1)) (k : W p l e R s m args below meth c H locs cells slots Q (F0 m (pc + 1) ls (.int (nI (a * b)) :: rest))) : W p l e R s m args below meth c H locs cells slots Q (F0 m pc ls (.int (nI b) :: .int (nI a) :: rest)) := lv_imul hx hb d (by rw [pk_mul]; exact k)
theorem zr_isubN (a b : Nat) (hba : b ≤ a) (hx : p.tables.exec = Jvm.exec) (hb : c.code = cc) (d : decode cc pc = .ok (.isub, 1)) (k : W p l e R s m args below meth c H locs cells slots Q (F0 m (pc + 1) ls (.int (nI (a - b)) :: rest))) : W p l e R s m args below meth c H locs cells slots Q (F0 m pc ls (.int (nI b) :: .int (nI a) :: rest)) := lv_isub hx hb d (by rw [pk_sub hba]; exact k)
theorem zr_idivN (a b : Nat) (ha : a < 2 ^ 31) (h0 : 0 < b) (hb2 : b < 2 ^ 31) (hx : p.tables.exec = Jvm.exec) (hb : c.code = cc) (d : decode cc pc = .ok (.idiv, 1)) (k : W p l e R s m args below meth c H locs cells slots Q (F0 m (pc + 1) ls (.int (nI (a / b)) :: rest))) : W p l e R s m args below meth c H locs cells slots Q (F0 m pc ls (.int (nI b) :: .int (nI a) :: rest)) := lv_idiv hx hb d (nI_ne0 h0 hb2) (by rw [pk_div ha h0 hb2]; exact k)
theorem zr_iremN (a b : Nat) (ha : a < 2 ^ 31) (h0 : 0 < b) (hb2 : b < 2 ^ 31) (hx : p.tables.exec = Jvm.exec) (hb : c.code = cc) (d : decode cc pc = .ok (.irem, 1)) (k : W p l e R s m args below meth c H locs cells slots Q (F0 m (pc + 1) ls (.int (nI (a % b)) :: rest))) : W p l e R s m args below meth c H locs cells slots Q (F0 m pc ls (.int (nI b) :: .int (nI a) :: rest)) := lv_irem hx hb d (nI_ne0 h0 hb2) (by rw [pk_rem ha h0 hb2]; exact k)
theorem zr_lt (a b : Nat) (ha : a < 2 ^ 31) (hb2 : b < 2 ^ 31) {off : Int} {tgt : Nat} (hx : p.tables.exec = Jvm.exec) (hb : c.code = cc) (d : decode cc pc = .ok (.if_icmp .lt off, 3)) (ht : (pc : Int) + off = (tgt : Int)) (kt : a < b → W p l e R s m args below meth c H locs cells slots Q (F0 m tgt ls rest)) (kf : ¬ a < b → W p l e R s m args below meth c H locs cells slots Q (F0 m (pc + 3) ls rest)) : W p l e R s m args below meth c H locs cells slots Q (F0 m pc ls (.int (nI b) :: .int (nI a) :: rest)) := lv_icmp_lt hx hb d ht (fun h => kt ((nI_ltI ha hb2).mp h)) (fun h => kf (fun q => h ((nI_ltI ha hb2).mpr q)))
theorem zr_ge (a b : Nat) (ha : a < 2 ^ 31) (hb2 : b < 2 ^ 31) {off : Int} {tgt : Nat} (hx : p.tables.exec = Jvm.exec) (hb : c.code = cc) (d : decode cc pc = .ok (.if_icmp .ge off, 3)) (ht : (pc : Int) + off = (tgt : Int)) (kt : b ≤ a → W p l e R s m args below meth c H locs cells slots Q (F0 m tgt ls rest)) (kf : ¬ b ≤ a → W p l e R s m args below meth c H locs cells slots Q (F0 m (pc + 3) ls rest)) : W p l e R s m args below meth c H locs cells slots Q (F0 m pc ls (.int (nI b) :: .int (nI a) :: rest)) := lv_icmp_ge hx hb d ht (fun h => kt ((nI_leI hb2 ha).mp h)) (fun h => kf (fun q => h ((nI_leI hb2 ha).mpr q)))
theorem zr_gt (a b : Nat) (ha : a < 2 ^ 31) (hb2 : b < 2 ^ 31) {off : Int} {tgt : Nat} (hx : p.tables.exec = Jvm.exec) (hb : c.code = cc) (d : decode cc pc = .ok (.if_icmp .gt off, 3)) (ht : (pc : Int) + off = (tgt : Int)) (kt : b < a → W p l e R s m args below meth c H locs cells slots Q (F0 m tgt ls rest)) (kf : ¬ b < a → W p l e R s m args below meth c H locs cells slots Q (F0 m (pc + 3) ls rest)) : W p l e R s m args below meth c H locs cells slots Q (F0 m pc ls (.int (nI b) :: .int (nI a) :: rest)) := lv_icmp_gt hx hb d ht (fun h => kt ((nI_ltI hb2 ha).mp h)) (fun h => kf (fun q => h ((nI_ltI hb2 ha).mpr q)))
theorem zr_le (a b : Nat) (ha : a < 2 ^ 31) (hb2 : b < 2 ^ 31) {off : Int} {tgt : Nat} (hx : p.tables.exec = Jvm.exec) (hb : c.code = cc) (d : decode cc pc = .ok (.if_icmp .le off, 3)) (ht : (pc : Int) + off = (tgt : Int)) (kt : a ≤ b → W p l e R s m args below meth c H locs cells slots Q (F0 m tgt ls rest)) (kf : ¬ a ≤ b → W p l e R s m args below meth c H locs cells slots Q (F0 m (pc + 3) ls rest)) : W p l e R s m args below meth c H locs cells slots Q (F0 m pc ls (.int (nI b) :: .int (nI a) :: rest)) := lv_icmp_le hx hb d ht (fun h => kt ((nI_leI ha hb2).mp h)) (fun h => kf (fun q => h ((nI_leI ha hb2).mpr q)))
theorem zr_eq (a b : Nat) (ha : a < 2 ^ 31) (hb2 : b < 2 ^ 31) {off : Int} {tgt : Nat} (hx : p.tables.exec = Jvm.exec) (hb : c.code = cc) (d : decode cc pc = .ok (.if_icmp .eq off, 3)) (ht : (pc : Int) + off = (tgt : Int)) (kt : a = b → W p l e R s m args below meth c H locs cells slots Q (F0 m tgt ls rest)) (kf : ¬ a = b → W p l e R s m args below meth c H locs cells slots Q (F0 m (pc + 3) ls rest)) : W p l e R s m args below meth c H locs cells slots Q (F0 m pc ls (.int (nI b) :: .int (nI a) :: rest)) := lv_icmp_eq hx hb d ht (fun h => kt ((nI_eq ha hb2).mp h)) (fun h => kf (fun q => h ((nI_eq ha hb2).mpr q)))
theorem zr_ne (a b : Nat) (ha : a < 2 ^ 31) (hb2 : b < 2 ^ 31) {off : Int} {tgt : Nat} (hx : p.tables.exec = Jvm.exec) (hb : c.code = cc) (d : decode cc pc = .ok (.if_icmp .ne off, 3)) (ht : (pc : Int) + off = (tgt : Int)) (kt : ¬ a = b → W p l e R s m args below meth c H locs cells slots Q (F0 m tgt ls rest)) (kf : a = b → W p l e R s m args below meth c H locs cells slots Q (F0 m (pc + 3) ls rest)) : W p l e R s m args below meth c H locs cells slots Q (F0 m pc ls (.int (nI b) :: .int (nI a) :: rest)) := lv_icmp_ne hx hb d ht (fun h => kt (fun q => h ((nI_eq ha hb2).mpr q))) (fun h => kf ((nI_eq ha hb2).mp h))
def zb (b : Bool) : Int32 := if b then 1 else 0
theorem zb_t {b : Bool} (h : b = true) : zb b = 1 := by rw [h]; rfl
theorem zb_f {b : Bool} (h : ¬ b = true) : zb b = 0 := by rw [Bool.not_eq_true] at h; rw [h]; rfl
theorem zr_eqB (b : Bool) {off : Int} {tgt : Nat} (hx : p.tables.exec = Jvm.exec) (hb : c.code = cc) (d : decode cc pc = .ok (.ifCond .eq off, 3)) (ht : (pc : Int) + off = (tgt : Int)) (kt : ¬ b = true → W p l e R s m args below meth c H locs cells slots Q (F0 m tgt ls rest)) (kf : b = true → W p l e R s m args below meth c H locs cells slots Q (F0 m (pc + 3) ls rest)) : W p l e R s m args below meth c H locs cells slots Q (F0 m pc ls (.int (zb b) :: rest)) := lv_if_eq hx hb d ht (fun h => kt (fun q => by rw [q] at h; cases h)) (fun h => kf (by cases b; exact absurd rfl h; rfl))
theorem zr_neB (b : Bool) {off : Int} {tgt : Nat} (hx : p.tables.exec = Jvm.exec) (hb : c.code = cc) (d : decode cc pc = .ok (.ifCond .ne off, 3)) (ht : (pc : Int) + off = (tgt : Int)) (kt : b = true → W p l e R s m args below meth c H locs cells slots Q (F0 m tgt ls rest)) (kf : ¬ b = true → W p l e R s m args below meth c H locs cells slots Q (F0 m (pc + 3) ls rest)) : W p l e R s m args below meth c H locs cells slots Q (F0 m pc ls (.int (zb b) :: rest)) := lv_if_ne hx hb d ht (fun h => kt (by cases b; exact absurd rfl h; rfl)) (fun h => kf (fun q => by rw [q] at h; cases h))
theorem zl_c (x y : Int64) : (y < x ∧ lg_cmp x y = 1 ∧ ¬ x < y ∧ ¬ x = y) ∨ (x = y ∧ lg_cmp x y = 0 ∧ ¬ x < y ∧ ¬ y < x) ∨ (x < y ∧ lg_cmp x y = -1 ∧ ¬ y < x ∧ ¬ x = y) := by
  by_cases h1 : y < x
  · exact Or.inl ⟨h1, by simp [lg_cmp, h1], fun q => absurd (Int64.lt_trans h1 q) Int64.lt_irrefl, fun q => by subst q; exact Int64.lt_irrefl h1⟩
  · by_cases h2 : x = y
    · exact Or.inr (Or.inl ⟨h2, by simp [lg_cmp, h1, h2], fun q => by subst h2; exact Int64.lt_irrefl q, h1⟩)
    · exact Or.inr (Or.inr ⟨Int64.lt_of_le_of_ne (Int64.not_lt.mp h1) h2, by simp [lg_cmp, h1, h2], h1, h2⟩)
theorem zl_lt {x y : Int64} : lg_cmp x y < 0 ↔ x < y := by
  rcases zl_c x y with ⟨h1, h2, h3, h4⟩ | ⟨h1, h2, h3, h4⟩ | ⟨h1, h2, h3, h4⟩
  · rw [h2]; exact ⟨fun h => absurd h (by decide), fun h => absurd h h3⟩
  · rw [h2]; exact ⟨fun h => absurd h (by decide), fun h => absurd h h3⟩
  · rw [h2]; exact ⟨fun _ => h1, fun _ => by decide⟩
theorem zl_gt {x y : Int64} : 0 < lg_cmp x y ↔ y < x := by
  rcases zl_c x y with ⟨h1, h2, h3, h4⟩ | ⟨h1, h2, h3, h4⟩ | ⟨h1, h2, h3, h4⟩
  · rw [h2]; exact ⟨fun _ => h1, fun _ => by decide⟩
  · rw [h2]; exact ⟨fun h => absurd h (by decide), fun h => absurd h h4⟩
  · rw [h2]; exact ⟨fun h => absurd h (by decide), fun h => absurd h h3⟩
theorem zl_eq {x y : Int64} : lg_cmp x y = 0 ↔ x = y := by
  rcases zl_c x y with ⟨h1, h2, h3, h4⟩ | ⟨h1, h2, h3, h4⟩ | ⟨h1, h2, h3, h4⟩
  · rw [h2]; exact ⟨fun h => absurd h (by decide), fun h => absurd h h4⟩
  · rw [h2]; exact ⟨fun _ => h1, fun _ => rfl⟩
  · rw [h2]; exact ⟨fun h => absurd h (by decide), fun h => absurd h h4⟩
theorem zr_llt {x y : Int64} {off : Int} {tgt : Nat} (hx : p.tables.exec = Jvm.exec) (hb : c.code = cc) (d : decode cc pc = .ok (.ifCond .lt off, 3)) (ht : (pc : Int) + off = (tgt : Int)) (kt : x < y → W p l e R s m args below meth c H locs cells slots Q (F0 m tgt ls rest)) (kf : ¬ x < y → W p l e R s m args below meth c H locs cells slots Q (F0 m (pc + 3) ls rest)) : W p l e R s m args below meth c H locs cells slots Q (F0 m pc ls (.int (lg_cmp x y) :: rest)) := lv_if_lt hx hb d ht (fun h => kt (zl_lt.mp h)) (fun h => kf (fun q => h (zl_lt.mpr q)))
theorem zr_lge {x y : Int64} {off : Int} {tgt : Nat} (hx : p.tables.exec = Jvm.exec) (hb : c.code = cc) (d : decode cc pc = .ok (.ifCond .ge off, 3)) (ht : (pc : Int) + off = (tgt : Int)) (kt : ¬ x < y → W p l e R s m args below meth c H locs cells slots Q (F0 m tgt ls rest)) (kf : x < y → W p l e R s m args below meth c H locs cells slots Q (F0 m (pc + 3) ls rest)) : W p l e R s m args below meth c H locs cells slots Q (F0 m pc ls (.int (lg_cmp x y) :: rest)) := lv_if_ge hx hb d ht (fun h => kt (fun q => Int32.not_le.mpr (zl_lt.mpr q) h)) (fun h => kf (zl_lt.mp (Int32.not_le.mp h)))
theorem zr_lgt {x y : Int64} {off : Int} {tgt : Nat} (hx : p.tables.exec = Jvm.exec) (hb : c.code = cc) (d : decode cc pc = .ok (.ifCond .gt off, 3)) (ht : (pc : Int) + off = (tgt : Int)) (kt : y < x → W p l e R s m args below meth c H locs cells slots Q (F0 m tgt ls rest)) (kf : ¬ y < x → W p l e R s m args below meth c H locs cells slots Q (F0 m (pc + 3) ls rest)) : W p l e R s m args below meth c H locs cells slots Q (F0 m pc ls (.int (lg_cmp x y) :: rest)) := lv_if_gt hx hb d ht (fun h => kt (zl_gt.mp h)) (fun h => kf (fun q => h (zl_gt.mpr q)))
theorem zr_lle {x y : Int64} {off : Int} {tgt : Nat} (hx : p.tables.exec = Jvm.exec) (hb : c.code = cc) (d : decode cc pc = .ok (.ifCond .le off, 3)) (ht : (pc : Int) + off = (tgt : Int)) (kt : ¬ y < x → W p l e R s m args below meth c H locs cells slots Q (F0 m tgt ls rest)) (kf : y < x → W p l e R s m args below meth c H locs cells slots Q (F0 m (pc + 3) ls rest)) : W p l e R s m args below meth c H locs cells slots Q (F0 m pc ls (.int (lg_cmp x y) :: rest)) := lv_if_le hx hb d ht (fun h => kt (fun q => Int32.not_lt.mpr h (zl_gt.mpr q))) (fun h => kf (zl_gt.mp (Int32.not_le.mp h)))
theorem zr_leq {x y : Int64} {off : Int} {tgt : Nat} (hx : p.tables.exec = Jvm.exec) (hb : c.code = cc) (d : decode cc pc = .ok (.ifCond .eq off, 3)) (ht : (pc : Int) + off = (tgt : Int)) (kt : x = y → W p l e R s m args below meth c H locs cells slots Q (F0 m tgt ls rest)) (kf : ¬ x = y → W p l e R s m args below meth c H locs cells slots Q (F0 m (pc + 3) ls rest)) : W p l e R s m args below meth c H locs cells slots Q (F0 m pc ls (.int (lg_cmp x y) :: rest)) := lv_if_eq hx hb d ht (fun h => kt (zl_eq.mp h)) (fun h => kf (fun q => h (zl_eq.mpr q)))
theorem zr_lne {x y : Int64} {off : Int} {tgt : Nat} (hx : p.tables.exec = Jvm.exec) (hb : c.code = cc) (d : decode cc pc = .ok (.ifCond .ne off, 3)) (ht : (pc : Int) + off = (tgt : Int)) (kt : ¬ x = y → W p l e R s m args below meth c H locs cells slots Q (F0 m tgt ls rest)) (kf : x = y → W p l e R s m args below meth c H locs cells slots Q (F0 m (pc + 3) ls rest)) : W p l e R s m args below meth c H locs cells slots Q (F0 m pc ls (.int (lg_cmp x y) :: rest)) := lv_if_ne hx hb d ht (fun h => kt (fun q => h (zl_eq.mpr q))) (fun h => kf (zl_eq.mp h))
/-! arrays, by a Nat place -/
theorem z_in {i : Int32} {k n : Nat} (hk : i = nI k) (hlt : k < n) (hn : n < 2 ^ 31) : vp_in i n := by rw [hk]; exact vp_in_nI hlt hn
theorem zr_iald (k : Nat) {i v : Int32} {a n : Nat} {cA : ClassId} {f : Nat → Int32} (hx : p.tables.exec = Jvm.exec) (hb : c.code = cc) (hK : KK G s) (hP : va_P G.1 zcl ws H) (q0 : Nat) (ha : ws[q0]? = some (a, .inl (cA, n, .inl f))) (ht : cA = G.2 0) (hn : n < 2 ^ 31) (hk : i = nI k) (hlt : k < n) (hv : f k = v) (d : decode cc pc = .ok (.iaload, 1))
    (kk : W p l e R s m args below meth c H locs cells slots Q (F0 m (pc + 1) ls (.int v :: rest))) : W p l e R s m args below meth c H locs cells slots Q (F0 m pc ls (.int i :: .ref a :: rest)) := by
  subst hv; subst ht
  refine va_iald hx hb hK.1 hP q0 0 ha rfl (z_in hk hlt hn) d ?_
  rw [hk, nI_clamp (Nat.lt_trans hlt hn)]
  exact kk
theorem zr_bald (k : Nat) {i v : Int32} {a n : Nat} {cA : ClassId} {f : Nat → Int32} (hx : p.tables.exec = Jvm.exec) (hb : c.code = cc) (hK : KK G s) (hP : va_P G.1 zcl ws H) (q0 : Nat) (ha : ws[q0]? = some (a, .inl (cA, n, .inl f))) (ht : cA = G.2 2) (hn : n < 2 ^ 31) (hk : i = nI k) (hlt : k < n) (hv : f k = v) (d : decode cc pc = .ok (.baload, 1))
    (kk : W p l e R s m args below meth c H locs cells slots Q (F0 m (pc + 1) ls (.int v :: rest))) : W p l e R s m args below meth c H locs cells slots Q (F0 m pc ls (.int i :: .ref a :: rest)) := by
  subst hv; subst ht
  refine va_bald hx hb hK.1 hP q0 2 ha rfl (z_in hk hlt hn) d ?_
  rw [hk, nI_clamp (Nat.lt_trans hlt hn)]
  exact kk
theorem zr_lald (k : Nat) {i : Int32} {v : Int64} {a n : Nat} {cA : ClassId} {f : Nat → Int64} (hx : p.tables.exec = Jvm.exec) (hb : c.code = cc) (hK : KK G s) (hP : va_P G.1 zcl ws H) (q0 : Nat) (ha : ws[q0]? = some (a, .inl (cA, n, .inr (.inl f)))) (ht : cA = G.2 1) (hn : n < 2 ^ 31) (hk : i = nI k) (hlt : k < n) (hv : f k = v) (d : decode cc pc = .ok (.laload, 1))
    (kk : W p l e R s m args below meth c H locs cells slots Q (F0 m (pc + 1) ls (.long v :: rest))) : W p l e R s m args below meth c H locs cells slots Q (F0 m pc ls (.int i :: .ref a :: rest)) := by
  subst hv; subst ht
  refine va_lald hx hb hK.1 hP q0 1 ha rfl (z_in hk hlt hn) d ?_
  rw [hk, nI_clamp (Nat.lt_trans hlt hn)]
  exact kk
theorem zr_iast (k : Nat) {i x : Int32} {a n : Nat} {cA : ClassId} {f : Nat → Int32} (hx : p.tables.exec = Jvm.exec) (hb : c.code = cc) (hK : KK G s) (hP : va_P G.1 zcl ws H) (hD : va_D A ws) (hS : va_S A H0 H locs) (q0 : Nat) (ha : ws[q0]? = some (a, .inl (cA, n, .inl f))) (ht : cA = G.2 0) (hn : n < 2 ^ 31) (hk : i = nI k) (hlt : k < n) (hw : ws.set q0 (a, .inl (cA, n, .inl (upd f k x))) = ws') (d : decode cc pc = .ok (.iastore, 1))
    (kk : ∀ (H1 : Heap) (locs1 : List Loc), va_P G.1 zcl ws' H1 → va_D A ws' → va_S A H0 H1 locs1 → W p l e R s m args below meth c H1 locs1 cells slots Q (F0 m (pc + 1) ls rest)) : W p l e R s m args below meth c H locs cells slots Q (F0 m pc ls (.int x :: .int i :: .ref a :: rest)) := by
  subst ht
  refine va_iast hx hb hK.1 hP hD hS q0 0 ha rfl (z_in hk hlt hn) d ?_
  rw [hk, nI_clamp (Nat.lt_trans hlt hn), hw]
  exact kk
theorem zr_bast (k : Nat) {i x : Int32} {a n : Nat} {cA : ClassId} {f : Nat → Int32} (hx : p.tables.exec = Jvm.exec) (hb : c.code = cc) (hK : KK G s) (hP : va_P G.1 zcl ws H) (hD : va_D A ws) (hS : va_S A H0 H locs) (q0 : Nat) (ha : ws[q0]? = some (a, .inl (cA, n, .inl f))) (ht : cA = G.2 2) (hn : n < 2 ^ 31) (hk : i = nI k) (hlt : k < n) (hw : ws.set q0 (a, .inl (cA, n, .inl (upd f k (vp_nar .byte x)))) = ws') (d : decode cc pc = .ok (.bastore, 1))
    (kk : ∀ (H1 : Heap) (locs1 : List Loc), va_P G.1 zcl ws' H1 → va_D A ws' → va_S A H0 H1 locs1 → W p l e R s m args below meth c H1 locs1 cells slots Q (F0 m (pc + 1) ls rest)) : W p l e R s m args below meth c H locs cells slots Q (F0 m pc ls (.int x :: .int i :: .ref a :: rest)) := by
  subst ht
  refine va_bast hx hb hK.1 hP hD hS q0 2 ha rfl (z_in hk hlt hn) d ?_
  rw [hk, nI_clamp (Nat.lt_trans hlt hn), hw]
  exact kk
theorem zr_last (k : Nat) {i : Int32} {x : Int64} {a n : Nat} {cA : ClassId} {f : Nat → Int64} (hx : p.tables.exec = Jvm.exec) (hb : c.code = cc) (hK : KK G s) (hP : va_P G.1 zcl ws H) (hD : va_D A ws) (hS : va_S A H0 H locs) (q0 : Nat) (ha : ws[q0]? = some (a, .inl (cA, n, .inr (.inl f)))) (ht : cA = G.2 1) (hn : n < 2 ^ 31) (hk : i = nI k) (hlt : k < n) (hw : ws.set q0 (a, .inl (cA, n, .inr (.inl (vp_updL f k x)))) = ws') (d : decode cc pc = .ok (.lastore, 1))
    (kk : ∀ (H1 : Heap) (locs1 : List Loc), va_P G.1 zcl ws' H1 → va_D A ws' → va_S A H0 H1 locs1 → W p l e R s m args below meth c H1 locs1 cells slots Q (F0 m (pc + 1) ls rest)) : W p l e R s m args below meth c H locs cells slots Q (F0 m pc ls (.long x :: .int i :: .ref a :: rest)) := by
  subst ht
  refine va_last hx hb hK.1 hP hD hS q0 1 ha rfl (z_in hk hlt hn) d ?_
  rw [hk, nI_clamp (Nat.lt_trans hlt hn), hw]
  exact kk
end ZR
/-! plain words of the printed functions -/
def zlet {α β : Type} (a : α) (f : α → β) : β := f a
theorem zlet_eq {α β : Type} {a t : α} {f : α → β} (h : a = t) : zlet a f = f t := by rw [h]; rfl
def zf {σ : Type} (f : Nat → σ → σ) (s0 : σ) : Nat → σ
  | 0 => s0
  | k + 1 => f k (zf f s0 k)
theorem zf_s {σ : Type} {f : Nat → σ → σ} {s0 s s' : σ} {k : Nat} (h : zf f s0 k = s) (e : f k s = s') : zf f s0 (k + 1) = s' := by
  show f k (zf f s0 k) = s'
  rw [h, e]
/-- a loop: so many rounds at most, until it answers -/
def zw {σ ρ : Type} (f : σ → σ ⊕ ρ) (d : ρ) : Nat → σ → ρ
  | 0, _ => d
  | n + 1, s => match f s with
    | .inl s' => zw f d n s'
    | .inr r => r
theorem zw_l {σ ρ : Type} {f : σ → σ ⊕ ρ} {d : ρ} {n : Nat} {s s' : σ} (h : f s = .inl s') : zw f d (n + 1) s = zw f d n s' := by
  show (match f s with | .inl s' => zw f d n s' | .inr r => r) = _
  rw [h]
theorem zw_r {σ ρ : Type} {f : σ → σ ⊕ ρ} {d r : ρ} {n : Nat} {s : σ} (h : f s = .inr r) : zw f d (n + 1) s = r := by
  show (match f s with | .inl s' => zw f d n s' | .inr r => r) = _
  rw [h]
def zcase {α β γ : Type} (x : α ⊕ β) (f : α → γ) (g : β → γ) : γ := match x with
  | .inl a => f a
  | .inr b => g b
theorem zcase_l {α β γ : Type} {x : α ⊕ β} {a : α} {f : α → γ} {g : β → γ} (h : x = .inl a) : zcase x f g = f a := by rw [h]; rfl
theorem zcase_r {α β γ : Type} {x : α ⊕ β} {b : β} {f : α → γ} {g : β → γ} (h : x = .inr b) : zcase x f g = g b := by rw [h]; rfl
theorem zb_nar {b : Bool} : narrow .boolean (.int (zb b)) = .int (zb b) := by cases b <;> rfl
theorem zb_fit {b : Bool} : fits .boolean (.int (zb b)) = true := by cases b <;> rfl
theorem z_nn {x : Int32} (h : ¬ x < 0) : x = nI x.toNatClampNeg := by
  obtain ⟨j, hj, rfl⟩ := nI_of h
  rw [nI_clamp hj]
theorem z_nb {x : Int32} (h : ¬ x < 0) : x.toNatClampNeg < 2 ^ 31 := by
  obtain ⟨j, hj, rfl⟩ := nI_of h
  rw [nI_clamp hj]; exact hj
theorem z_lt {x : Int32} (N : Nat) (hN : N < 2 ^ 31) (h : ¬ x < 0) (h1 : x < nI N) : x.toNatClampNeg < N := by
  obtain ⟨j, hj, rfl⟩ := nI_of h
  rw [nI_clamp hj]; exact (nI_ltI hj hN).mp h1
theorem z_le {x : Int32} (N : Nat) (hN : N < 2 ^ 31) (h : ¬ x < 0) (h1 : x ≤ nI N) : x.toNatClampNeg ≤ N := by
  obtain ⟨j, hj, rfl⟩ := nI_of h
  rw [nI_clamp hj]; exact (nI_leI hj hN).mp h1
theorem z_nge {x : Int32} (N : Nat) (hN : N < 2 ^ 31) (h : ¬ x < 0) (h1 : ¬ nI N ≤ x) : x.toNatClampNeg < N := by
  obtain ⟨j, hj, rfl⟩ := nI_of h
  rw [nI_clamp hj]; exact Nat.lt_of_not_le fun q => h1 ((nI_leI hN hj).mpr q)
theorem z_ngt {x : Int32} (N : Nat) (hN : N < 2 ^ 31) (h : ¬ x < 0) (h1 : ¬ nI N < x) : x.toNatClampNeg ≤ N := by
  obtain ⟨j, hj, rfl⟩ := nI_of h
  rw [nI_clamp hj]; exact Nat.le_of_not_lt fun q => h1 ((nI_ltI hN hj).mpr q)
theorem z_0le {x : Int32} (h : 0 ≤ x) : ¬ x < 0 := Int32.not_lt.mpr h
def zmax (x y : Int32) : Int32 := if x < y then y else x
def zmin (x y : Int32) : Int32 := if y < x then y else x
theorem z_out (x : Int32) {lo hi : Int} (h : ∀ z : Int, lo ≤ z → z ≤ hi → ¬ x.toInt = z) : x.toInt < lo ∨ hi < x.toInt := by
  rcases Int.lt_or_le x.toInt lo with q | q
  · exact Or.inl q
  · rcases Int.lt_or_le hi x.toInt with q2 | q2
    · exact Or.inr q2
    · exact absurd rfl (h x.toInt q q2)
theorem z_outn {x c : Int32} {z : Int} (h : ¬ x = c) (e : c.toInt = z) : ¬ x.toInt = z := fun q => h (Int32.toInt_inj.mp (q.trans e.symm))
theorem z_mu2 {zs e e' n : Nat} {t t' : Int32} (hm : 2 * (zs - e) + (if t = 0 then 0 else 1) < n + 1) (ht : ¬ t = 0) (h : t' = 0 ∨ e < e') (hl : e ≤ e') (hz : e' ≤ zs) : 2 * (zs - e') + (if t' = 0 then 0 else 1) < n := by
  rw [if_neg ht] at hm
  by_cases q : t' = 0
  · rw [if_pos q]; omega
  · rw [if_neg q]; have := h.resolve_left q; omega
section ZR2
variable {p : Program} {l : Launch} {e : Env} {R : Room} {s : State} {m : MethodId} {args : Array Value} {below : List Frame} {meth : Method} {c : Code} {H : Heap} {locs : List Loc} {cells slots : Nat} {Q : State → Prop}
variable {cc : ByteArray} {pc : Nat} {ls : Array Slot} {rest st : List Value} {G : zG} {A : Nat → Prop} {H0 : Heap} {ws ws' : va_W}
theorem zr_ifeqN (a : Nat) (ha : a < 2 ^ 31) {off : Int} {tgt : Nat} (hx : p.tables.exec = Jvm.exec) (hb : c.code = cc) (d : decode cc pc = .ok (.ifCond .eq off, 3)) (ht : (pc : Int) + off = (tgt : Int)) (kt : a = 0 → W p l e R s m args below meth c H locs cells slots Q (F0 m tgt ls rest)) (kf : ¬ a = 0 → W p l e R s m args below meth c H locs cells slots Q (F0 m (pc + 3) ls rest)) : W p l e R s m args below meth c H locs cells slots Q (F0 m pc ls (.int (nI a) :: rest)) := lv_if_eq hx hb d ht (fun h => kt ((nI_eq ha (by decide)).mp (h.trans nI_0.symm))) (fun h => kf (fun q => h (by rw [q]; rfl)))
theorem zr_ifneN (a : Nat) (ha : a < 2 ^ 31) {off : Int} {tgt : Nat} (hx : p.tables.exec = Jvm.exec) (hb : c.code = cc) (d : decode cc pc = .ok (.ifCond .ne off, 3)) (ht : (pc : Int) + off = (tgt : Int)) (kt : ¬ a = 0 → W p l e R s m args below meth c H locs cells slots Q (F0 m tgt ls rest)) (kf : a = 0 → W p l e R s m args below meth c H locs cells slots Q (F0 m (pc + 3) ls rest)) : W p l e R s m args below meth c H locs cells slots Q (F0 m pc ls (.int (nI a) :: rest)) := lv_if_ne hx hb d ht (fun h => kt (fun q => h (by rw [q]; rfl))) (fun h => kf ((nI_eq ha (by decide)).mp (h.trans nI_0.symm)))
theorem zr_ifgtN (a : Nat) (ha : a < 2 ^ 31) {off : Int} {tgt : Nat} (hx : p.tables.exec = Jvm.exec) (hb : c.code = cc) (d : decode cc pc = .ok (.ifCond .gt off, 3)) (ht : (pc : Int) + off = (tgt : Int)) (kt : 0 < a → W p l e R s m args below meth c H locs cells slots Q (F0 m tgt ls rest)) (kf : ¬ 0 < a → W p l e R s m args below meth c H locs cells slots Q (F0 m (pc + 3) ls rest)) : W p l e R s m args below meth c H locs cells slots Q (F0 m pc ls (.int (nI a) :: rest)) := lv_if_gt hx hb d ht (fun h => kt ((nI_ltI (a := 0) (by decide) ha).mp h)) (fun h => kf (fun q => h ((nI_ltI (a := 0) (by decide) ha).mpr q)))
theorem zr_ifleN (a : Nat) (ha : a < 2 ^ 31) {off : Int} {tgt : Nat} (hx : p.tables.exec = Jvm.exec) (hb : c.code = cc) (d : decode cc pc = .ok (.ifCond .le off, 3)) (ht : (pc : Int) + off = (tgt : Int)) (kt : a = 0 → W p l e R s m args below meth c H locs cells slots Q (F0 m tgt ls rest)) (kf : ¬ a = 0 → W p l e R s m args below meth c H locs cells slots Q (F0 m (pc + 3) ls rest)) : W p l e R s m args below meth c H locs cells slots Q (F0 m pc ls (.int (nI a) :: rest)) := lv_if_le hx hb d ht (fun h => kt (Nat.le_zero.mp ((nI_leI (b := 0) ha (by decide)).mp h))) (fun h => kf (fun q => h (by rw [q]; decide)))
theorem zr_lltN (a b : Nat) (ha : a < 2 ^ 63) (hb2 : b < 2 ^ 63) {off : Int} {tgt : Nat} (hx : p.tables.exec = Jvm.exec) (hb : c.code = cc) (d : decode cc pc = .ok (.ifCond .lt off, 3)) (ht : (pc : Int) + off = (tgt : Int)) (kt : a < b → W p l e R s m args below meth c H locs cells slots Q (F0 m tgt ls rest)) (kf : ¬ a < b → W p l e R s m args below meth c H locs cells slots Q (F0 m (pc + 3) ls rest)) : W p l e R s m args below meth c H locs cells slots Q (F0 m pc ls (.int (lg_cmp (lN a) (lN b)) :: rest)) := zr_llt hx hb d ht (fun h => kt ((pk_lLT ha hb2).mp h)) (fun h => kf (fun q => h ((pk_lLT ha hb2).mpr q)))
theorem zr_lgeN (a b : Nat) (ha : a < 2 ^ 63) (hb2 : b < 2 ^ 63) {off : Int} {tgt : Nat} (hx : p.tables.exec = Jvm.exec) (hb : c.code = cc) (d : decode cc pc = .ok (.ifCond .ge off, 3)) (ht : (pc : Int) + off = (tgt : Int)) (kt : ¬ a < b → W p l e R s m args below meth c H locs cells slots Q (F0 m tgt ls rest)) (kf : a < b → W p l e R s m args below meth c H locs cells slots Q (F0 m (pc + 3) ls rest)) : W p l e R s m args below meth c H locs cells slots Q (F0 m pc ls (.int (lg_cmp (lN a) (lN b)) :: rest)) := zr_lge hx hb d ht (fun h => kt (fun q => h ((pk_lLT ha hb2).mpr q))) (fun h => kf ((pk_lLT ha hb2).mp h))
theorem zr_lgtN (a b : Nat) (ha : a < 2 ^ 63) (hb2 : b < 2 ^ 63) {off : Int} {tgt : Nat} (hx : p.tables.exec = Jvm.exec) (hb : c.code = cc) (d : decode cc pc = .ok (.ifCond .gt off, 3)) (ht : (pc : Int) + off = (tgt : Int)) (kt : b < a → W p l e R s m args below meth c H locs cells slots Q (F0 m tgt ls rest)) (kf : ¬ b < a → W p l e R s m args below meth c H locs cells slots Q (F0 m (pc + 3) ls rest)) : W p l e R s m args below meth c H locs cells slots Q (F0 m pc ls (.int (lg_cmp (lN a) (lN b)) :: rest)) := zr_lgt hx hb d ht (fun h => kt ((pk_lLT hb2 ha).mp h)) (fun h => kf (fun q => h ((pk_lLT hb2 ha).mpr q)))
theorem zr_lleN (a b : Nat) (ha : a < 2 ^ 63) (hb2 : b < 2 ^ 63) {off : Int} {tgt : Nat} (hx : p.tables.exec = Jvm.exec) (hb : c.code = cc) (d : decode cc pc = .ok (.ifCond .le off, 3)) (ht : (pc : Int) + off = (tgt : Int)) (kt : ¬ b < a → W p l e R s m args below meth c H locs cells slots Q (F0 m tgt ls rest)) (kf : b < a → W p l e R s m args below meth c H locs cells slots Q (F0 m (pc + 3) ls rest)) : W p l e R s m args below meth c H locs cells slots Q (F0 m pc ls (.int (lg_cmp (lN a) (lN b)) :: rest)) := zr_lle hx hb d ht (fun h => kt (fun q => h ((pk_lLT hb2 ha).mpr q))) (fun h => kf ((pk_lLT hb2 ha).mp h))
theorem zr_leqN (a b : Nat) (ha : a < 2 ^ 63) (hb2 : b < 2 ^ 63) {off : Int} {tgt : Nat} (hx : p.tables.exec = Jvm.exec) (hb : c.code = cc) (d : decode cc pc = .ok (.ifCond .eq off, 3)) (ht : (pc : Int) + off = (tgt : Int)) (kt : a = b → W p l e R s m args below meth c H locs cells slots Q (F0 m tgt ls rest)) (kf : ¬ a = b → W p l e R s m args below meth c H locs cells slots Q (F0 m (pc + 3) ls rest)) : W p l e R s m args below meth c H locs cells slots Q (F0 m pc ls (.int (lg_cmp (lN a) (lN b)) :: rest)) := zr_leq hx hb d ht (fun h => kt ((pk_lEQ ha hb2).mp h)) (fun h => kf (fun q => h ((pk_lEQ ha hb2).mpr q)))
theorem zr_lneN (a b : Nat) (ha : a < 2 ^ 63) (hb2 : b < 2 ^ 63) {off : Int} {tgt : Nat} (hx : p.tables.exec = Jvm.exec) (hb : c.code = cc) (d : decode cc pc = .ok (.ifCond .ne off, 3)) (ht : (pc : Int) + off = (tgt : Int)) (kt : ¬ a = b → W p l e R s m args below meth c H locs cells slots Q (F0 m tgt ls rest)) (kf : a = b → W p l e R s m args below meth c H locs cells slots Q (F0 m (pc + 3) ls rest)) : W p l e R s m args below meth c H locs cells slots Q (F0 m pc ls (.int (lg_cmp (lN a) (lN b)) :: rest)) := zr_lne hx hb d ht (fun h => kt (fun q => h ((pk_lEQ ha hb2).mpr q))) (fun h => kf ((pk_lEQ ha hb2).mp h))
theorem zr_laddN (a b : Nat) (hx : p.tables.exec = Jvm.exec) (hb : c.code = cc) (d : decode cc pc = .ok (.ladd, 1)) (k : W p l e R s m args below meth c H locs cells slots Q (F0 m (pc + 1) ls (.long (lN (a + b)) :: rest))) : W p l e R s m args below meth c H locs cells slots Q (F0 m pc ls (.long (lN b) :: .long (lN a) :: rest)) := lv_ladd hx hb d (by rw [lN_add]; exact k)
theorem zl_ne0 {b : Nat} (h0 : 0 < b) (hb : b < 2 ^ 63) : ¬ lN b = 0 := fun h => by
  have := (pk_lEQ (b := 0) hb (by decide)).mp h
  omega
theorem zr_ldivN (a b : Nat) (ha : a < 2 ^ 63) (h0 : 0 < b) (hb2 : b < 2 ^ 63) (hx : p.tables.exec = Jvm.exec) (hb : c.code = cc) (d : decode cc pc = .ok (.ldiv, 1)) (k : W p l e R s m args below meth c H locs cells slots Q (F0 m (pc + 1) ls (.long (lN (a / b)) :: rest))) : W p l e R s m args below meth c H locs cells slots Q (F0 m pc ls (.long (lN b) :: .long (lN a) :: rest)) := lv_ldiv hx hb d (zl_ne0 h0 hb2) (by rw [pk_lDiv ha h0 hb2]; exact k)
theorem zr_lremN (a b : Nat) (ha : a < 2 ^ 63) (h0 : 0 < b) (hb2 : b < 2 ^ 63) (hx : p.tables.exec = Jvm.exec) (hb : c.code = cc) (d : decode cc pc = .ok (.lrem, 1)) (k : W p l e R s m args below meth c H locs cells slots Q (F0 m (pc + 1) ls (.long (lN (a % b)) :: rest))) : W p l e R s m args below meth c H locs cells slots Q (F0 m pc ls (.long (lN b) :: .long (lN a) :: rest)) := lv_lrem hx hb d (zl_ne0 h0 hb2) (by rw [pk_lRem ha h0 hb2]; exact k)
end ZR2
theorem z_aff (j : Nat) (c : Int32) (d : Nat) : nI j - c + nI d = nI (j + d) - c := by
  rw [← nI_add]; grind
theorem z_subc {a b q : Nat} (ha : a ≤ 60) (hb : b < 2 ^ 31) (hq : q < 2 ^ 31) (h : ¬ nI a - nI b < nI q) : b + q ≤ a := by
  have h1 : (nI q).toInt ≤ (nI a - nI b).toInt := Int32.le_iff_toInt_le.mp (Int32.not_lt.mp h)
  have h2 : (nI a - nI b).toInt = (a : Int) - b := by
    rw [Int32.toInt_sub, nI_toInt (by omega), nI_toInt hb]
    exact Int.bmod_eq_of_le (by omega) (by omega)
  rw [h2, nI_toInt hq] at h1
  omega
theorem z_subc' {a b q : Nat} (ha : a ≤ 60) (hb : b < 2 ^ 31) (hq : q < 2 ^ 31) (h : nI q ≤ nI a - nI b) : b + q ≤ a := z_subc ha hb hq (Int32.not_lt.mpr h)
theorem zf_inv {σ : Type} {f : Nat → σ → σ} (P : σ → Prop) (hs : ∀ k s, P s → P (f k s)) {s0 : σ} (h0 : P s0) : ∀ k, P (zf f s0 k)
  | 0 => h0
  | k + 1 => hs k _ (zf_inv P hs h0 k)
theorem zw_inv {σ ρ : Type} {f : σ → σ ⊕ ρ} {d : ρ} (P : σ → Prop) (Q : ρ → Prop) (hl : ∀ s s', P s → f s = .inl s' → P s') (hr : ∀ s r, P s → f s = .inr r → Q r) (hd : Q d) : ∀ n s, P s → Q (zw f d n s) := by
  intro n
  induction n with
  | zero => exact fun _ _ => hd
  | succ n ih =>
    intro s hs
    cases e : f s with
    | inl s' => rw [zw_l e]; exact ih s' (hl s s' hs e)
    | inr r => rw [zw_r e]; exact hr s r hs e
theorem z_a5 : ∀ j, j < 12 → ¬ ((5 : Int32) < nI j - 5) → j < 11 := by decide
theorem z_a4 : ∀ j, j < 10 → ¬ ((4 : Int32) < nI j - 4) → j < 9 := by decide
def zpw (w : Nat) : Nat := 2 ^ w
theorem zpw_le : ∀ w, w < 6 → zpw w ≤ 32 := by decide
theorem zpw_1 : ∀ w, w < 6 → 1 ≤ zpw w := by decide
theorem zpw_e : ∀ w, w < 6 → (1 : Int32) <<< (nI w &&& 31) = nI (zpw w) := by decide
theorem zP_sub {D : va_G} {cl : List vw_C} {ws ws' : va_W} {H : Heap} (h : va_P D cl ws H) (is : List Nat) (hs : is.map (fun i => ws[i]?) = ws'.map some) : va_P D cl ws' H := by
  intro k q hk
  have e : (is.map (fun i => ws[i]?))[k]? = some (some q) := by rw [hs, List.getElem?_map, hk]; rfl
  rw [List.getElem?_map] at e
  cases hi : is[k]? with
  | none => rw [hi] at e; cases e
  | some i => rw [hi] at e; exact h i q (Option.some.inj e)
section ZR3
variable {p : Program} {l : Launch} {e : Env} {R : Room} {s : State} {m : MethodId} {args : Array Value} {below : List Frame} {meth : Method} {c : Code} {H : Heap} {locs : List Loc} {cells slots : Nat} {Q : State → Prop}
variable {cc : ByteArray} {pc : Nat} {ls : Array Slot} {rest st : List Value} {G : zG} {A : Nat → Prop} {H0 : Heap} {ws ws' : va_W}
variable {Ts : List Cond} {wsy ws9 : List Cond} {bytes : ByteArray} {nL maxL index n mc ms : Nat} {own C : String} {y : MethodName} {ret : Option FieldType} {rm : Room} {As : List Value} {r : Value}
/-- a call that changes a part of the world: the rest stays beside it -/
theorem zr_muKs {F : Prop} {τ : Type} {w0 wr w1 wn : va_W} {r : Option Value} {a : Array Value} (isC isR perm : List Nat) (hC : isC.map (fun i => ws[i]?) = w0.map some) (hR : isR.map (fun i => ws[i]?) = wr.map some) (hnC : va_nd isC = true) (hn : va_nd isR = true) (hdis : ∀ i ∈ isR, i ∉ isC) (hpn : va_nd perm = true) (hperm : perm.map (fun i => (wr ++ w1)[i]?) = wn.map some) (hr : va_Run p l e R s m args below meth c H locs cells slots mc ms (F0 m pc ls st) rest (zQm G F r w1 (va_A w0 H.size) a) (va_A w0 H.size)) (hP : va_P G.1 zcl ws H) (hD : va_D A ws) (hS : va_S A H0 H locs) (hA : ∀ q : Nat, H0.size ≤ q → A q)
    (k : F → ∀ (H1 : Heap) (locs1 : List Loc), va_P G.1 zcl wn H1 → va_D A wn → va_S A H0 H1 locs1 → H.size ≤ H1.size → W p l e R s m args below meth c H1 locs1 (cells + mc) (slots + ms) Q (F0 m (pc + 3) ls (r.toList ++ rest))) : W p l e R s m args below meth c H locs cells slots Q (F0 m pc ls st) := by
  have hD0 : va_D A w0 := hD.sub isC hnC hC
  have hAA : ∀ q, va_A w0 H.size q → A q := by
    intro q h
    rcases h with ⟨k, e, hk⟩ | h
    · exact hD0.2 k _ hk
    · exact hA q (Nat.le_trans hS.1 h)
  intro T hT X
  obtain ⟨v, st₀, t, T', L, h0, X', hL, e1, e2, ⟨⟨hv, hF, hp, hd⟩, hz, hk⟩, stp⟩ := hr T hT X
  cases hv
  rw [h0] at hz hk
  obtain ⟨hP2, hD2⟩ := va_join hP hD isC isR hC hR hn hdis (H1 := T'.heap) (fun q h1 h2 => by rw [e1]; exact hk q h1 h2) hAA (by rw [e1]; exact hp) hd
  have hS1 : va_S A H0 T'.heap (locs ++ L) := ⟨Nat.le_trans hS.1 (by rw [e1]; exact hz), fun q h1 h2 => by rw [e1, hk q (Nat.lt_of_lt_of_le h1 hS.1) (fun z => h2 (hAA q z))]; exact hS.2.1 q h1 h2, fun q hq => by
      rcases List.mem_append.mp hq with h | h
      · exact hS.2.2 q h
      · exact hAA _ (hL q h)⟩
  obtain ⟨t2, a1, b1⟩ := k hF T'.heap (locs ++ L) (zP_sub hP2 perm hperm) (hD2.sub perm hpn hperm) hS1 (by rw [e1]; exact hz) T' rfl X'
  exact ⟨t2, stp t2 a1, b1⟩
theorem zr_muVs {τ : Type} {F : τ} {ff : τ → Prop} {rr : τ → Option Value} {w0 wr : va_W} {w1 wn : τ → va_W} {b : Nat} {fs : List Value} {q : vw_C} (isC isR perm : List Nat) (hC : isC.map (fun i => ws[i]?) = w0.map some) (hR : isR.map (fun i => ws[i]?) = wr.map some) (hnC : va_nd isC = true) (hn : va_nd isR = true) (hdis : ∀ i ∈ isR, i ∉ isC) (hpn : va_nd perm = true) (hperm : ∀ t, perm.map (fun i => (wr ++ w1 t)[i]?) = (wn t).map some) (C0 : CallFix p m c cc nL s args Ts own) (hM : Met l y wsy rm (zPm G H.size (.ref b :: As) w0) (zQm G (ff F) (rr F) (w1 F) (va_A w0 H.size)) mc ms (va_A w0 H.size)) (cw : CallW R s args own q.1 index y bytes maxL ret wsy rm mc ms n) (hP : va_P G.1 zcl ws H) (hD : va_D A ws) (hS : va_S A s.heap H locs) (hA : ∀ q : Nat, s.heap.size ≤ q → A q) (hK : KK G s) (hE : ZE G A s s.heap) (ci : Nat) (hc : zcl[ci]? = some q) (he : w0[0]? = some (b, .inr (ci, fs))) (hn2 : As.length = n) (hl : ls.size = nL) (hst : st = As.reverse ++ .ref b :: rest) (hW : (rest.map fun v => v.category).sum ≤ 8) (d : decode cc pc = .ok (.invokevirtual index, 3)) (hf : cells + mc ≤ R.cells ∧ slots + ms ≤ R.slots)
    (k : ∀ t : τ, F = t → ff t → ∀ (H1 : Heap) (locs1 : List Loc), va_P G.1 zcl (wn t) H1 → va_D A (wn t) → va_S A s.heap H1 locs1 → H.size ≤ H1.size → W p l e R s m args below meth c H1 locs1 (cells + mc) (slots + ms) Q (F0 m (pc + 3) ls ((rr t).toList ++ rest))) : W p l e R s m args below meth c H locs cells slots Q (F0 m pc ls st) :=
  zr_muKs (τ := τ) isC isR perm hC hR hnC hn hdis hpn (hperm F) (va_runV C0 hM cw ⟨zPm_blind, va_recv hK.1 (zP_sub hP isC hC) hc he, fun U hU hW => ⟨rfl, by rw [hU], by rw [hU]; exact zP_sub hP isC hC, zKK_warm hW hK, (hD.sub isC hnC hC).weaken (fun _ _ _ _ => trivial), zE_m hE (hD.sub isC hnC hC) hS hA hW hU⟩⟩ rfl hn2 hl hst (lv_room (pc := pc) (ls := ls) (rest := st) hW) d hf) hP hD hS hA (k F rfl)
end ZR3
section ZR4
variable {p : Program} {l : Launch} {e : Env} {R : Room} {s : State} {m : MethodId} {args : Array Value} {below : List Frame} {meth : Method} {c : Code} {H : Heap} {locs : List Loc} {cells slots : Nat} {Q : State → Prop}
variable {cc : ByteArray} {pc : Nat} {ls : Array Slot} {rest st : List Value} {G : zG} {A : Nat → Prop} {ws ws' : va_W}
variable {Ts : List Cond} {wsy ws9 : List Cond} {bytes : ByteArray} {nL maxL index n mc ms : Nat} {own C : String} {y : MethodName} {ret : Option FieldType} {rm : Room} {As : List Value} {r : Value} {a : Array Value}
/-- nothing is answered, nothing changed -/
def zQn : Array Value → State → Outcome → State → Prop := fun _ st o t => o = .returned none ∧ t.heap = st.heap
theorem zr_callN {g : JFrame} (hr : CallRun p l e R s m args below meth c H locs cells slots 0 0 g rest (zQn a) (fun _ => False)) (kk : W p l e R s m args below meth c H locs cells slots Q { g with pc := g.pc + 3, stack := rest }) : W p l e R s m args below meth c H locs cells slots Q g := by
  intro T hT X
  obtain ⟨v, st₀, t, T', L, h0, X', hL, e1, ⟨hv, hh⟩, st⟩ := hr T hT X
  cases hv
  obtain ⟨t2, a1, b1⟩ := kk T' (by rw [e1, hh, h0]) (Stand.forget X' (fun q h => (hL q h).elim))
  exact ⟨t2, st t2 a1, b1⟩
theorem zP_nil {D : va_G} {cl : List vw_C} {H : Heap} : va_P D cl [] H := fun k q h => by simp at h
/-- a call on a literal -/
theorem zr_obStr (C0 : CallFix p m c cc nL s args Ts own) (i : Nat) (hM : Met l y wsy rm (zPo G (.ref (zK G i) :: As) []) (k2_QcV r) 0 0 (fun _ => False)) (cw : CallW R s args own "java/lang/String" index y bytes maxL ret wsy rm 0 0 n) (hK : KK G s) (hE : ZE G (fun _ => False) s H) (hi : i < 23) (hn : As.length = n) (hl : ls.size = nL) (hst : st = As.reverse ++ .ref (zK G i) :: rest) (hW : (rest.map fun v => v.category).sum ≤ 8) (d : decode cc pc = .ok (.invokevirtual index, 3)) (hf : cells + 0 ≤ R.cells ∧ slots + 0 ≤ R.slots)
    (k : W p l e R s m args below meth c H locs cells slots Q (F0 m (pc + 3) ls (r :: rest))) : W p l e R s m args below meth c H locs cells slots Q (F0 m pc ls st) := by
  obtain ⟨cell, h1, h2, h3, -⟩ := (hE.1.1 i hi).1
  exact W.callV (W.runV C0 hM cw ⟨zPo_blind, ⟨cell, h1, h2, h3⟩, fun U hU hW => ⟨rfl, zP_nil, zKK_warm hW hK, by rw [hU]; exact zE_moved hW.alike hE⟩⟩ rfl hn hl hst (lv_room (pc := pc) (ls := ls) (rest := st) hW) d hf) k
/-- a static call of a method that answers nothing, and only reads -/
theorem zr_obSn (C0 : CallFix p m c cc nL s args Ts own) (hM : Met l y wsy rm (zPo G As []) zQn 0 0 (fun _ => False)) (cw : CallB R s args own index y bytes maxL ret wsy rm 0 0 n ∧ (Cond.static y).before args s = true) (hK : KK G s) (hE : ZE G (fun _ => False) s H) (hn : As.length = n) (hl : ls.size = nL) (hst : st = As.reverse ++ rest) (hW : (rest.map fun v => v.category).sum ≤ 8) (d : decode cc pc = .ok (.invokestatic index, 3)) (hf : cells + 0 ≤ R.cells ∧ slots + 0 ≤ R.slots)
    (k : W p l e R s m args below meth c H locs cells slots Q (F0 m (pc + 3) ls rest)) : W p l e R s m args below meth c H locs cells slots Q (F0 m pc ls st) :=
  zr_callN (W.runS C0 hM cw ⟨zPo_blind, fun U hU hW => ⟨rfl, zP_nil, zKK_warm hW hK, by rw [hU]; exact zE_moved hW.alike hE⟩⟩ rfl hn hl hst (lv_room (pc := pc) (ls := ls) (rest := st) hW) d hf) k
theorem zr_entN {av : List Value} {y : MethodName} {cc : ByteArray} {maxL : Nat} {ret : Option FieldType} {rm : Room} (hy : plainName y.cls = true) (hlen : (lg_sl av).length ≤ maxL)
    (body : ∀ (p : Program) (e : Env) (s : State) (m : MethodId) (below : List Frame) (meth : Method) (c : Code), zC p s m meth c cc maxL ret y av.toArray → ∀ ls : Array Slot, lv_has ls maxL (lv_args 0 av) → va_P G.1 zcl ws s.heap → KK G s → ZE G (fun _ => False) s s.heap → W p l e rm s m av.toArray below meth c s.heap [] 0 0 (MQ below zQn av.toArray s 0 0 (fun _ => False)) (F0 m 0 ls [])) :
    Met l y (ws_ y cc maxL ret) rm (zPo G av ws) zQn 0 0 (fun _ => False) := by
  refine Met.ofW (cc := cc) (maxL := maxL) (ret := ret) hy rfl ?_
  intro p e s m args below meth c s₁ B hml hv
  obtain ⟨rfl, hP, hK, hE⟩ := hv
  have hts := atoms_spec (ws := ws_ y cc maxL ret) B.pre
  have hl := lv_entry av (n := maxL) hlen
  rw [lg_entry_eq]
  exact body p e s m below meth c ⟨B.exec, B.bytes, B.returns, hml, findClass_of_methodNamed B.named, fun w h => hts w (List.mem_cons_of_mem _ h), B.notSynchronized, (name_of_methodNamed B.named B.method).1⟩ _ hl hP hK hE
end ZR4
theorem z_modlt {a b n : Nat} (hb : ¬ b = 0) (h : b < n + 1) : a % b < n := by
  have := Nat.mod_lt a (Nat.pos_of_ne_zero hb)
  omega
theorem zca (a b : Nat) (hb : 1 ≤ b) (h : a + b ≤ 2000) : ¬ nI a < 0 ∧ ¬ nI b < 0 ∧ 1 ≤ (nI b).toNatClampNeg ∧ (nI a).toNatClampNeg + (nI b).toNatClampNeg ≤ 2000 := by
  rw [nI_clamp (by omega), nI_clamp (by omega)]
  exact ⟨nI_pos (by omega), nI_pos (by omega), hb, h⟩
