/-! zm: an array of arrays made -/
theorem zm_outer (c : ClassId) (N h0 : Nat) : ∀ i, Jvm.Free.Multi.outerC c N h0 i = arrV c N (fun j => if j < i then .ref (h0 + 1 + j) else .null)
  | 0 => by
    show ({ cls := c, slots := Array.replicate N .null, vm := .none } : Cell) = _
    rw [arrV_new]
    congr 1
  | i + 1 => by
    show (Jvm.Free.Multi.outerC c N h0 i).setSlot i (.ref (h0 + 1 + i)) = _
    rw [zm_outer c N h0 i, arrV_store]
    congr 1
    funext j
    unfold updV
    by_cases h : j = i
    · subst h; rw [if_pos rfl, if_pos (Nat.lt_succ_self _)]
    · rw [if_neg h]
      show (if j < i then Value.ref (h0 + 1 + j) else Value.null) = _
      by_cases h2 : j < i
      · rw [if_pos h2, if_pos (by omega)]
      · rw [if_neg h2, if_neg (by omega)]
theorem zm_arr {c : ClassId} {N : Nat} {f g : Nat → Value} (h : ∀ j, j < N → f j = g j) : arrV c N f = arrV c N g := by
  unfold arrV
  congr 1
  apply Array.ext
  · simp
  · intro i h1 h2
    simp only [Array.getElem_ofFn]
    exact h i (by simpa using h1)
/-- a row's cells -/
def zmR (G : zG) (q : Nat) : Nat → va_W
  | 0 => []
  | n + 1 => zmR G q n ++ [(q + 1 + n, .inl (G.2 1, 1024, .inr (.inl (fun _ => 0))))]
theorem zmR_mem {G : zG} {q : Nat} : ∀ {n : Nat} {x : Nat × va_E}, x ∈ zmR G q n → ∃ j, j < n ∧ x = (q + 1 + j, .inl (G.2 1, 1024, .inr (.inl (fun _ => 0))))
  | 0, x, h => by simp [zmR] at h
  | n + 1, x, h => by
    rcases List.mem_append.mp h with h | h
    · obtain ⟨j, hj, e⟩ := zmR_mem h
      exact ⟨j, by omega, e⟩
    · exact ⟨n, Nat.lt_succ_self _, List.mem_singleton.mp h⟩
theorem zmR_nd {G : zG} {q : Nat} : ∀ n : Nat, ((zmR G q n).map Prod.fst).Nodup
  | 0 => List.nodup_nil
  | n + 1 => by
    show ((zmR G q n ++ _).map Prod.fst).Nodup
    rw [List.map_append]
    refine List.nodup_append.mpr ⟨zmR_nd n, by simp, fun a ha b hb => ?_⟩
    obtain ⟨x, hx, rfl⟩ := List.mem_map.mp ha
    obtain ⟨j, hj, rfl⟩ := zmR_mem hx
    have e : b = q + 1 + n := by simpa using hb
    rw [e]
    show ¬ q + 1 + j = q + 1 + n
    omega
section ZRM
variable {p : Program} {l : Launch} {e : Env} {R : Room} {s : State} {m : MethodId} {args : Array Value} {below : List Frame} {meth : Method} {c : Code} {H : Heap} {locs : List Loc} {cells slots : Nat} {Q : State → Prop}
variable {cc : ByteArray} {pc : Nat} {ls : Array Slot} {rest st : List Value} {G : zG} {A : Nat → Prop} {H0 : Heap} {ws ws' : va_W}
theorem zr_ma2 {own : String} {index : Nat} (hx : p.tables.exec = Jvm.exec) (hb : c.code = cc) (hown : s.vm.findClass own = some m.cls) (hclink : (Cond.classLink own index "[[J").before args s = true) (hover : zAL s) (harr : (Cond.arrayClass .long).before args s = true) (hK : KK G s) (hP : va_P G.1 zcl ws H) (hD : va_D A ws) (hS : va_S A H0 H locs) (hA : ∀ q : Nat, H0.size ≤ q → A q) (hcells : cells + 7 ≤ R.cells) (hslots : slots + 6150 ≤ R.slots) (d : decode cc pc = .ok (.multianewarray index 2, 4))
    (kk : ∀ (q : Nat) (H1 : Heap), va_P G.1 zcl (ws ++ ((q, .inl (G.2 7, 6, .inr (.inr (.inr (.inr (fun k => some (q + 1 + k))))))) :: zmR G q 6)) H1 → va_D A (ws ++ ((q, .inl (G.2 7, 6, .inr (.inr (.inr (.inr (fun k => some (q + 1 + k))))))) :: zmR G q 6)) → va_S A H0 H1 locs → W p l e R s m args below meth c H1 locs (cells + 7) (slots + 6150) Q (F0 m (pc + 4) ls (.ref q :: rest))) : W p l e R s m args below meth c H locs cells slots Q (F0 m pc ls (.int 1024 :: .int 6 :: rest)) := by
  have e6 : (6 : Int32).toNatClampNeg = 6 := by decide
  have ek : (1024 : Int32).toNatClampNeg = 1024 := by decide
  intro T hT X
  obtain ⟨vm₁, cA, comp, hW, hfA, hfC, hO, hI, X1, step⟩ := X.multianewarray2F (ty := .long) hx hown hclink hover harr (g := F0 m pc ls (.int 1024 :: .int 6 :: rest)) rfl (by rw [hb]; exact d) rfl (by decide) (by decide) (by decide) (by decide) (by decide) rfl rfl (by rw [e6]; exact hcells) (by rw [e6, ek]; exact hslots)
  rw [e6, ek] at X1 step
  have hcA : cA = G.2 7 := Option.some.inj (hfA.symm.trans (hK.1.2 7 _ rfl).2)
  have hco : comp = G.2 1 := Option.some.inj (hfC.symm.trans (hK.1.2 1 _ rfl).2)
  subst hcA; subst hco
  obtain ⟨f1, f2, -, -⟩ := Jvm.Free.Multi.fill_facts (T.setVm vm₁) (G.2 7) (G.2 1) 6 1024 (defaultValue .long) 6
  have hh : (T.setVm vm₁).heap = H := hT
  have hold : ∀ a : Nat, a < H.size → (Jvm.Free.Multi.fill (T.setVm vm₁) (G.2 7) (G.2 1) 6 1024 (defaultValue .long) 6).heap[a]? = H[a]? := fun a ha => by
    rw [Jvm.Free.Multi.fill_old (T.setVm vm₁) (G.2 7) (G.2 1) 6 1024 (defaultValue .long) (by rw [hh]; exact ha) 6, hh]
  have hin := Jvm.Free.Multi.fill_inner (T.setVm vm₁) (G.2 7) (G.2 1) 6 1024 (defaultValue .long) 6
  rw [hh] at f1 f2 hin
  generalize hF : Jvm.Free.Multi.fill (T.setVm vm₁) (G.2 7) (G.2 1) 6 1024 (defaultValue .long) 6 = F at *
  have hP1 : va_P G.1 zcl (ws ++ ((H.size, .inl (G.2 7, 6, .inr (.inr (.inr (.inr (fun k => some (H.size + 1 + k))))))) :: zmR G H.size 6)) F.heap := by
    refine zP_mem.mpr fun x hx9 => ?_
    rcases List.mem_append.mp hx9 with h | h
    · have h1 := zP_mem.mp hP x h
      have h2 : va_P G.1 zcl [x] H := zP_mem.mpr fun y hy => by rw [List.mem_singleton.mp hy]; exact h1
      have h3 := h2.kept (H1 := F.heap) (fun k y hy => hold y.1 ((h2 k y hy).lt))
      exact zP_mem.mp h3 x (List.mem_singleton.mpr rfl)
    · rcases List.mem_cons.mp h with rfl | h
      · show F.heap[H.size]? = some (vp_cell (G.2 7) (6, .inr (.inr (.inr (.inr (fun k => some (H.size + 1 + k)))))))
        rw [f2, zm_outer]
        rw [vp_cell_q]
        exact congrArg some (zm_arr fun j hj => by show (if j < 6 then Value.ref (H.size + 1 + j) else Value.null) = _; rw [if_pos hj]; rfl)
      · obtain ⟨j, hj, rfl⟩ := zmR_mem h
        show F.heap[H.size + 1 + j]? = some (vp_cell (G.2 1) (1024, .inr (.inl (fun _ => 0))))
        rw [hin j hj]
        exact congrArg some (arrV_new (G.2 1) 1024 (defaultValue .long))
  have hD1 : va_D A (ws ++ ((H.size, .inl (G.2 7, 6, .inr (.inr (.inr (.inr (fun k => some (H.size + 1 + k))))))) :: zmR G H.size 6)) := by
    have h0 := zD_iff.mp hD
    refine zD_iff.mpr ⟨?_, fun x hx9 => ?_⟩
    · rw [List.map_append, List.map_cons]
      refine List.nodup_append.mpr ⟨h0.1, List.nodup_cons.mpr ⟨fun h => ?_, zmR_nd 6⟩, fun a ha b hb9 => ?_⟩
      · obtain ⟨x, hx9, e9⟩ := List.mem_map.mp h
        obtain ⟨j, hj, rfl⟩ := zmR_mem hx9
        have e9 : H.size + 1 + j = H.size := e9
        omega
      · obtain ⟨x, hx9, rfl⟩ := List.mem_map.mp ha
        have hlt := (zP_mem.mp hP x hx9).lt
        rcases List.mem_cons.mp hb9 with rfl | hb9
        · intro q; omega
        · obtain ⟨y, hy, rfl⟩ := List.mem_map.mp hb9
          obtain ⟨j, hj, rfl⟩ := zmR_mem hy
          intro q
          have q : x.1 = H.size + 1 + j := q
          omega
    · rcases List.mem_append.mp hx9 with h | h
      · exact h0.2 x h
      · rcases List.mem_cons.mp h with rfl | h
        · exact hA _ hS.1
        · obtain ⟨j, hj, rfl⟩ := zmR_mem h
          exact hA _ (Nat.le_trans hS.1 (by show H.size ≤ H.size + 1 + j; omega))
  obtain ⟨t, a1, b1⟩ := kk H.size F.heap hP1 hD1 ⟨Nat.le_trans hS.1 (by omega), fun q g1 g2 => (hold q (Nat.lt_of_lt_of_le g1 hS.1)).trans (hS.2.1 q g1 g2), hS.2.2⟩ F rfl X1
  rw [← hT] at a1
  exact ⟨t, step t a1, b1⟩
end ZRM
