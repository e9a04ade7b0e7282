/-! zu: System.arraycopy that throws -/
section ZCZ
variable {p : Program} {l : Launch} {e : Env} {R : Room} {s : State} {m : MethodId} {args : Array Value} {below : List Frame} {meth : Method} {c : Code} {H : Heap} {locs : List Loc} {cells slots : Nat} {Q : State → Prop}
variable {cc : ByteArray} {pc : Nat} {ls : Array Slot} {rest st : List Value} {G : zG} {A : Nat → Prop} {H0 : Heap} {ws ws' : va_W}
theorem zt_kind (ty : FieldType) : (Native.java_lang_System.arraycopy.kindName ty).toList.length ≤ 12 := by cases ty <;> first | decide | (show "object array".toList.length ≤ 12; decide)
theorem zt_int {x : Int} (h0 : 0 ≤ x) (h1 : x < 10 ^ 10) : (toString x).toList.length ≤ 10 := by
  cases x with
  | ofNat m =>
    have h2 : (m : Int) < 10 ^ 10 := h1
    show (toString m).toList.length ≤ 10
    exact nat_print (by omega)
  | negSucc m => exact absurd h0 (by omega)
def zt_what (ty : FieldType) (w : String) (x : Int) (n : Nat) : String := w ++ toString x ++ " out of bounds for " ++ (Native.java_lang_System.arraycopy.kindName ty ++ "[" ++ toString n ++ "]")
theorem zt_txm (ty : FieldType) (w : String) (x : Int) (n : Nat) : (("arraycopy: " ++ zt_what ty w x n) == notModelled) = false := by
  rw [beq_eq_false_iff_ne]
  intro h
  have h2 := congrArg String.toList h
  rw [String.toList_append] at h2
  have h4 : notModelled.toList = '\u0000' :: " a message that is not modelled".toList := by decide
  rw [h4, show "arraycopy: ".toList = 'a' :: "rraycopy: ".toList from by decide] at h2
  simp at h2
theorem zt_txb (ty : FieldType) {w : String} {x : Int} {n : Nat} (hw : w.toList.length ≤ 30) (h0 : 0 ≤ x) (h1 : x < 10 ^ 10) (hn : n < 2 ^ 31) : (stringBytes (stringToUtf16 ("arraycopy: " ++ zt_what ty w x n))).size ≤ 400 := by
  have b1 := stringBytes_size_le (stringToUtf16 ("arraycopy: " ++ zt_what ty w x n))
  have b2 := utf16_size_le ("arraycopy: " ++ zt_what ty w x n)
  have b3 : ("arraycopy: " ++ zt_what ty w x n).toList.length ≤ 100 := by
    unfold zt_what
    simp only [String.toList_append, List.length_append]
    have a1 : "arraycopy: ".toList.length = 11 := by decide
    have a2 : " out of bounds for ".toList.length = 19 := by decide
    have a3 : "[".toList.length = 1 := by decide
    have a4 : "]".toList.length = 1 := by decide
    have a5 := zt_kind ty
    have a6 := zt_int h0 h1
    have a7 := nat_print (n := n) (by omega)
    omega
  omega
/-- the throw out of a native, told at any heap -/
theorem zr_nat {T : State} (X : Stand p l e R s m args below meth c T locs cells slots) (hT : T.heap = H) (hexec : p.tables.exec = Jvm.exec) (hl : l.stackTraces = false) {cls text : String} {names : List String} {nb : Nat} {nf : NFrame} (hnf : nf.words = 0) (haw : nf.awaiting = false) (hlk : nf.locked = none)
    (hcls : Bundle.fit cls = true) (hnames : ∀ n ∈ names, Bundle.fit n = true) (hsoe : (cls == "java/lang/StackOverflowError") = false) (hoom : (cls == "java/lang/OutOfMemoryError") = false)
    (hat : ∀ w ∈ vx_atM cls names, w.before args s = true) (hgood : ∀ w ∈ vx_atM cls names, vx_ot w = true)
    (hU : vx_Zq Bundle.tN "UNASSIGNED_STACK" Bundle.steD A s s.heap) (hN : vx_Zq Bundle.tN "SUPPRESSED_SENTINEL" Bundle.listD A s s.heap) (hS : va_S A s.heap H locs) (hsize : ls.size = c.maxLocals)
    (htext : (text == notModelled) = false) (hnb : (stringBytes (stringToUtf16 text)).size ≤ nb) (hnb1 : nb ≤ 1000)
    (hRframes : names.length + 5 < R.frames) (hRlocals : (rest.map fun v => v.category).sum + 10240 ≤ R.locals) (hshort : 13 * names.length + 55 ≤ 10240) (hRcells : cells + 3 ≤ R.cells) (hRslots : slots + (nb + 10) ≤ R.slots) (hlocks : meth.locks = false) :
    ∃ (S : State) (q9 : Addr) (ce : Cell), (∀ target, Steps p.tables e below ((S.setTop (F0 m pc ls rest)).pushFrame (.throwing q9)) target → Steps p.tables e below (T.setFrames (.throwNew cls (some text) none :: .native nf :: .java (F0 m pc ls rest) :: below)) target) ∧
      Stand p l e R s m args below meth c S locs (cells + 3) (slots + (nb + 10)) ∧ H.size ≤ S.heap.size ∧ (∀ q : Nat, q < H.size → S.heap[q]? = H[q]?) ∧ S.heap[q9]? = some ce ∧ ce.vm = .none ∧ s.vm.findClass cls = some ce.cls := by
  have htr : e.platform.stackTraces = false := (show e.platform.stackTraces = l.stackTraces by rw [X.admits.platform]).trans hl
  have Y := vx_rebase X (R' := { frames := R.frames, locals := R.locals, cells := 3, slots := nb + 10 }) (Nat.le_refl _) (Nat.le_refl _) hRcells hRslots
  have hhp : ((T.setVm s.vm).setFrames (.invoking m args :: below)).heap = H := hT
  have hW0 : s.WarmedH ((T.setVm s.vm).setFrames (.invoking m args :: below)).vm := State.WarmedH.refl s
  have hat' : ∀ w ∈ vx_atM cls names, w.before args ((T.setVm s.vm).setFrames (.invoking m args :: below)) = true := fun w hw => vx_ot_at hW0 rfl (hgood w hw) (hat w hw)
  have hU' : vx_Zq Bundle.tN "UNASSIGNED_STACK" Bundle.steD A ((T.setVm s.vm).setFrames (.invoking m args :: below)) ((T.setVm s.vm).setFrames (.invoking m args :: below)).heap := by rw [hhp]; exact vx_Zq.moved hW0.alike (hU.kept hS.2.1)
  have hN' : vx_Zq Bundle.tN "SUPPRESSED_SENTINEL" Bundle.listD A ((T.setVm s.vm).setFrames (.invoking m args :: below)) ((T.setVm s.vm).setFrames (.invoking m args :: below)).heap := by rw [hhp]; exact vx_Zq.moved hW0.alike (hN.kept hS.2.1)
  obtain ⟨S, q, ce, st, Z, hce, hcl', hv⟩ := vx_vmN Y hexec htr (cls := cls) (names := names) (text := text) hcls hnames hsoe hoom (vx_own hat' (vx_isRefq hU'.1) (vx_isRefq hN'.1) hU'.2.word hN'.2.word) (fun x hx => nomatch hx) htext
    (by rw [Launch.admits_arrayLengthLimit X.admits]; omega) (by rw [Launch.admits_maxHeapBytes X.admits]; simp only [componentBytes]; omega)
    (g := F0 m pc ls rest) hnf haw hlk rfl hsize hRframes (by show 2 * 0 + (rest.map fun v => v.category).sum + 10240 ≤ R.locals; omega) hshort (by show 0 + 3 ≤ 3; omega) (by show 0 + (_ + 4 + 6) ≤ nb + 10; omega) hlocks
  obtain ⟨f1, f2⟩ := vx_frame Z.same
  have f1' : H.size ≤ S.heap.size := by rw [← hT]; exact f1
  have f2' : ∀ q : Nat, q < H.size → S.heap[q]? = H[q]? := fun q hq => by
    rw [← hT]
    exact f2 q (by rw [← hT] at hq; exact hq) (fun z hz => nomatch hz)
  have X5 := vx_back9 X Y Z
  have X6 : Stand p l e R s m args below meth c S locs (cells + 3) (slots + (nb + 10)) := { X5 with same := X5.same.mono (by omega) (by omega) }
  exact ⟨S, q, ce, st, X6, f1', f2', hce, hv, hcl'⟩
theorem zr_copyZ {own : String} {index : Nat} {a0 a : Nat} {sp dp n9 : Int32} {x0 x1 : vp_A} {cA : ClassId} (ty : FieldType) (hx : p.tables.exec = Jvm.exec) (hb : c.code = cc) (hml : c.maxLocals = ls.size) (hown : s.vm.findClass own = some m.cls) (hlink : (Cond.methodLink own index arraycopyName).before args s = true) (hnat : (Cond.native arraycopyName).before args s = true) (hstat : (Cond.static arraycopyName).before args s = true) (hini : (Cond.initialized "java/lang/System").before args s = true) (hlt : l.stackTraces = false) (hts : ∀ w ∈ lw_all, w.before args s = true) (hK : KK G s) (hE : ZE G A s s.heap) (hP : va_P G.1 zcl ws H) (hS : va_S A s.heap H locs) (q0 q1 k0 : Nat) (ha0 : ws[q0]? = some (a0, .inl (cA, x0))) (ha1 : ws[q1]? = some (a, .inl (cA, x1))) (hk0 : (zty G)[k0]? = some (cA, ty)) (hp : refKind ty = false) (h1 : ¬ sp < 0) (h2 : ¬ dp < 0) (h3 : ¬ n9 < 0) (hz0 : x0.1 < 2 ^ 31) (hz1 : x1.1 < 2 ^ 31) (hout : x0.1 < sp.toNatClampNeg + n9.toNatClampNeg ∨ x1.1 < dp.toNatClampNeg + n9.toNatClampNeg) (hRf : 8 < R.frames) (hRl : (rest.map fun v => v.category).sum + 10240 ≤ R.locals) (hRc : cells + 3 ≤ R.cells) (hRs : slots + 410 ≤ R.slots) (hlocks : meth.locks = false) (d : decode cc pc = .ok (.invokestatic index, 3))
    (k : ∀ (q9 : Addr) (ce : Cell) (H1 : Heap), H1[q9]? = some ce → ce.vm = .none → s.vm.findClass "java/lang/ArrayIndexOutOfBoundsException" = some ce.cls → va_P G.1 zcl ws H1 → va_S A s.heap H1 locs → H.size ≤ H1.size → vx_W p l e R s m args below meth c H1 locs (cells + 3) (slots + 410) Q (F0 m pc ls rest) q9) : W p l e R s m args below meth c H locs cells slots Q (F0 m pc ls (.int n9 :: .int dp :: .ref a :: .int sp :: .ref a0 :: rest)) := by
  have nn : ∀ z : Int32, ¬ z < 0 → z.toInt = (z.toNatClampNeg : Int) := by
    intro z hz
    have hz0 : (0 : Int) ≤ z.toInt := by
      have := Int32.not_lt.mp hz
      simpa using Int32.le_iff_toInt_le.mp this
    show z.toInt = ((z.toInt.toNat : Nat) : Int)
    omega
  have hsz : ∀ x : vp_A, (vp_cell cA x).slots.size = x.1 := by
    intro x
    obtain ⟨n, f | f | f | f | f⟩ := x <;> exact arrV_size _ _ _
  have hvm0 : ∀ x : vp_A, (vp_cell cA x).vm = .none := by
    intro x
    obtain ⟨n, f | f | f | f | f⟩ := x <;> rfl
  have hcl0 : ∀ x : vp_A, (vp_cell cA x).cls = cA := by
    intro x
    obtain ⟨n, f | f | f | f | f⟩ := x <;> rfl
  have b1 := z_nb h1
  have b2 := z_nb h2
  have b3 := z_nb h3
  have hf : ∃ (w : String) (x : Int) (n : Nat), copyFault ty ty (vp_cell cA x0).slots.size (vp_cell cA x1).slots.size sp dp n9 = some (zt_what ty w x n) ∧ w.toList.length ≤ 30 ∧ 0 ≤ x ∧ x < 10 ^ 10 ∧ n < 2 ^ 31 := by
    rw [hsz, hsz]
    unfold copyFault
    rw [if_neg h1, if_neg h2, if_neg h3]
    by_cases c1 : sp.toInt + n9.toInt > (x0.1 : Int)
    · rw [if_pos c1]
      refine ⟨"last source index ", sp.toInt + n9.toInt, x0.1, rfl, by decide, ?_, ?_, hz0⟩
      · rw [nn sp h1, nn n9 h3]; omega
      · rw [nn sp h1, nn n9 h3]; omega
    · rw [if_neg c1]
      rw [nn sp h1, nn n9 h3] at c1
      have c2 : dp.toInt + n9.toInt > (x1.1 : Int) := by
        rw [nn dp h2, nn n9 h3]; omega
      rw [if_pos c2]
      refine ⟨"last destination index ", dp.toInt + n9.toInt, x1.1, rfl, by decide, ?_, ?_, hz1⟩
      · rw [nn dp h2, nn n9 h3]; omega
      · rw [nn dp h2, nn n9 h3]; omega
  obtain ⟨w, x, n, hf, hw, hx0, hx1, hn⟩ := hf
  intro T hT X
  have hc0 : H[a0]? = some (vp_cell cA x0) := hP q0 _ ha0
  have hc1 : H[a]? = some (vp_cell cA x1) := hP q1 _ ha1
  obtain ⟨-, kA, hkA, cm, hkind⟩ := (hK.1.2 k0 _ hk0).1 0 (fun _ => .null)
  obtain ⟨r, kS, methS, hnS, hmS, hkS, N⟩ := NativeOf.of_static hnat hstat (ps := [.object "java/lang/Object", .int, .object "java/lang/Object", .int, .int]) (ret := none) (by decide +kernel)
  have hinitS : kS.init = .initialized := Cond.initialized_spec (findClass_of_methodNamed hnS) hkS hini
  obtain ⟨vm', X', step⟩ := X.invokestatic hx hown hlink hnS hmS N.static hkS hinitS (by decide) (g := F0 m pc ls (.int n9 :: .int dp :: .ref a :: .int sp :: .ref a0 :: rest)) rfl (argsL := [.ref a0, .int sp, .ref a, .int dp, .int n9]) (rest := rest) (by rw [N.sig]; rfl) rfl (by rw [hb]; exact d)
  have hA' : s.vm.Alike vm' := X'.warmed.alike
  obtain ⟨kS', N'⟩ := N.alike hA'
  obtain ⟨kA', hkA', heA⟩ := hA'.2.2 _ _ hkA
  have hseen : seenByNative methS #[.ref a0, .int sp, .ref a, .int dp, .int n9] = #[.ref a0, .int sp, .ref a, .int dp, .int n9] := by
    simp [seenByNative, N'.static, N'.sig, narrow]
  obtain ⟨S, q9, ce, stx, X6, f1, f2, hce, hcv, hcl⟩ := zr_nat (pc := pc) (ls := ls) (rest := rest) X' (H := H) hT hx hlt (cls := "java/lang/ArrayIndexOutOfBoundsException") (text := "arraycopy: " ++ zt_what ty w x n) (names := ["java/lang/IndexOutOfBoundsException", "java/lang/RuntimeException", "java/lang/Exception"]) (nb := 400) (nf := { method := r, args := seenByNative methS #[.ref a0, .int sp, .ref a, .int dp, .int n9], locked := none }) rfl rfl rfl (by decide +kernel) (by decide +kernel) (by decide +kernel) (by decide +kernel) (zt_atA hts hK) zt_gdA hE.2.2.2.1 hE.2.2.2.2 hS hml.symm (zt_txm ty w x n) (zt_txb ty hw hx0 hx1 hn) (by decide) hRf hRl (by decide) hRc hRs hlocks
  obtain ⟨t, a1, b1⟩ := k q9 ce S.heap hce hcv hcl (zP_keep hP f2) ⟨Nat.le_trans hS.1 f1, fun q g1 g2 => (f2 q (Nat.lt_of_lt_of_le g1 hS.1)).trans (hS.2.1 q g1 g2), hS.2.2⟩ f1 S rfl X6
  refine ⟨t, step t (fun acts => ?_), b1⟩
  obtain ⟨g₀, hfr⟩ := X'.frames_eq
  have hcur : (T.setVm vm').cur < (T.setVm vm').threads.size := State.cur_lt_of_frames hfr
  have e1 : ∀ nf : NFrame, ((T.setVm vm').setTop (F0 m pc ls rest)).pushFrame (.native nf) = (T.setVm vm').setFrames (.native nf :: .java (F0 m pc ls rest) :: below) := fun nf => by
    rw [State.pushFrame, State.frames_setTop _ hfr, State.setTop_of_frames _ hfr, State.setFrames_setFrames]
  have e2 : ∀ (F : List Frame) (note : Frame), ((T.setVm vm').setFrames F).pushFrame note = (T.setVm vm').setFrames (note :: F) := fun F note => by
    rw [State.pushFrame, State.frames_setFrames _ hcur, State.setFrames_setFrames]
  refine Steps.nativeThrowsNote (g := F0 m pc ls rest) (row := arraycopyRow) (cls := "java/lang/ArrayIndexOutOfBoundsException") (msg := some ("arraycopy: " ++ zt_what ty w x n)) (T := fun u => u) X'.here acts N'.cls N'.meth N'.boot N'.native N'.noCode N'.noLock
    (by rw [N'.className, N'.name, N'.desc]; exact arraycopy_row p) (by rw [N'.className, N'.name]; exact X'.notFull (g := F0 m pc ls rest) hml.symm (vars := nativeFrameWords "java/lang/System" "arraycopy" 5) (by omega) (by have h9 : nativeFrameWords "java/lang/System" "arraycopy" 5 + 11 ≤ 56 := (by decide); show 2 * 0 + (rest.map fun v => v.category).sum + _ ≤ R.locals; omega)) ?_ ?_
  · intro E' hE'
    rw [hseen] at hE' ⊢
    rw [arraycopyRow_sem]
    exact _root_.Jvm.W.arraycopy_bounds (cs := vp_cell cA x0) (cd := vp_cell cA x1) (ks := kA') (kd := kA') (sComp := cm) (dComp := cm) (sType := ty) (dType := ty) (what := zt_what ty w x n) (by show T.heap[a0]? = _; rw [hT]; exact hc0) (by show T.heap[a]? = _; rw [hT]; exact hc1) (fun k h => by rw [hvm0] at h; cases h) (fun k h => by rw [hvm0] at h; cases h) (by rw [hcl0]; exact hkA') (by rw [hcl0]; exact hkA') (by rw [heA]; exact hkind) (by rw [heA]; exact hkind) (by simp [hp]) hf (hE' _)
  · show Steps p.tables e below ((((T.setVm vm').setTop (F0 m pc ls rest)).pushFrame (.native _)).pushFrame (.throwNew _ _ none)) t
    rw [e1, e2]
    exact stx t a1
end ZCZ
