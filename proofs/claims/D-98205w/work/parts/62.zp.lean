/-! zp: worlds up to their order; calls whose answer lies at new addresses -/
theorem zP_mem {D : va_G} {cl : List vw_C} {ws : va_W} {H : Heap} : va_P D cl ws H ↔ ∀ q ∈ ws, va_at D cl q H := by
  constructor
  · intro h q hq
    obtain ⟨k, hk⟩ := List.getElem?_of_mem hq
    exact h k q hk
  · intro h k q hk
    exact h q (List.mem_of_getElem? hk)
theorem zP_perm {D : va_G} {cl : List vw_C} {ws ws' : va_W} {H : Heap} (hp : ws.Perm ws') (h : va_P D cl ws H) : va_P D cl ws' H := zP_mem.mpr fun q hq => zP_mem.mp h q (hp.mem_iff.mpr hq)
theorem zD_iff {A : Nat → Prop} {ws : va_W} : va_D A ws ↔ (ws.map Prod.fst).Nodup ∧ ∀ q ∈ ws, A q.1 := by
  constructor
  · intro h
    refine ⟨?_, fun q hq => ?_⟩
    · refine List.pairwise_iff_getElem.mpr fun i j hi hj hij he => ?_
      rw [List.length_map] at hi hj
      rw [List.getElem_map, List.getElem_map] at he
      have := h.1 i j _ _ (List.getElem?_eq_getElem hi) (List.getElem?_eq_getElem hj) he
      omega
    · obtain ⟨k, hk⟩ := List.getElem?_of_mem hq
      exact h.2 k q hk
  · intro h
    refine ⟨fun i j p q hi hj he => ?_, fun k q hk => h.2 q (List.mem_of_getElem? hk)⟩
    obtain ⟨hi', rfl⟩ := List.getElem?_eq_some_iff.mp hi
    obtain ⟨hj', rfl⟩ := List.getElem?_eq_some_iff.mp hj
    have hp := List.pairwise_iff_getElem.mp h.1
    rcases Nat.lt_trichotomy i j with c | c | c
    · have := hp i j (by rw [List.length_map]; exact hi') (by rw [List.length_map]; exact hj') c
      rw [List.getElem_map, List.getElem_map] at this
      exact absurd he this
    · exact c
    · have := hp j i (by rw [List.length_map]; exact hj') (by rw [List.length_map]; exact hi') c
      rw [List.getElem_map, List.getElem_map] at this
      exact absurd he.symm this
theorem zD_perm {A : Nat → Prop} {ws ws' : va_W} (hp : ws.Perm ws') (h : va_D A ws) : va_D A ws' := by
  have h' := zD_iff.mp h
  exact zD_iff.mpr ⟨(hp.map Prod.fst).nodup_iff.mp h'.1, fun q hq => h'.2 q (hp.mem_iff.mpr hq)⟩
theorem zD_left {A : Nat → Prop} {a b : va_W} (h : va_D A (a ++ b)) : va_D A a := by
  have h' := zD_iff.mp h
  rw [List.map_append] at h'
  exact zD_iff.mpr ⟨(List.nodup_append.mp h'.1).1, fun q hq => h'.2 q (List.mem_append_left _ hq)⟩
theorem zD_right {A : Nat → Prop} {a b : va_W} (h : va_D A (a ++ b)) : va_D A b := by
  have h' := zD_iff.mp h
  rw [List.map_append] at h'
  exact zD_iff.mpr ⟨(List.nodup_append.mp h'.1).2.1, fun q hq => h'.2 q (List.mem_append_right _ hq)⟩
theorem zP_left {D : va_G} {cl : List vw_C} {a b : va_W} {H : Heap} (h : va_P D cl (a ++ b) H) : va_P D cl a H := zP_mem.mpr fun q hq => zP_mem.mp h q (List.mem_append_left _ hq)
theorem zP_right {D : va_G} {cl : List vw_C} {a b : va_W} {H : Heap} (h : va_P D cl (a ++ b) H) : va_P D cl b H := zP_mem.mpr fun q hq => zP_mem.mp h q (List.mem_append_right _ hq)
theorem perm_pos {ws ws' : va_W} (n : Nat) (is : List Nat) (hl : ws.length = n) (hp : (List.range n).isPerm is = true) (hs : is.map (fun i => ws[i]?) = ws'.map some) : ws.Perm ws' := by
  have h1 : (List.range n).map (fun i => ws[i]?) = ws.map some := by
    apply List.ext_getElem?
    intro i
    rw [List.getElem?_map, List.getElem?_map]
    by_cases c : i < n
    · rw [List.getElem?_range c, List.getElem?_eq_getElem (show i < ws.length by omega)]
      show some (ws[i]?) = some (some _)
      rw [List.getElem?_eq_getElem (show i < ws.length by omega)]
    · rw [List.getElem?_eq_none (by rw [List.length_range]; omega), List.getElem?_eq_none (by omega)]
      rfl
  have h2 : (ws.map some).Perm (ws'.map some) := by
    rw [← h1, ← hs]
    exact (List.isPerm_iff.mp hp).map _
  have h3 := h2.filterMap id
  rw [List.filterMap_map, List.filterMap_map] at h3
  simpa using h3
theorem zj_apart {D : va_G} {cl : List vw_C} {wr w0 : va_W} {A : Nat → Prop} {H : Heap} (hP : va_P D cl (wr ++ w0) H) (hD : va_D A (wr ++ w0)) : ∀ q ∈ wr, q.1 < H.size ∧ ¬ va_A w0 H.size q.1 := by
  intro q hq
  have hl := (zP_mem.mp hP q (List.mem_append_left _ hq)).lt
  refine ⟨hl, fun h => ?_⟩
  rcases h with ⟨k, e, hk⟩ | h
  · have hn := (zD_iff.mp hD).1
    rw [List.map_append] at hn
    have := (List.nodup_append.mp hn).2.2 q.1 (List.mem_map.mpr ⟨q, hq, rfl⟩) q.1 (List.mem_map.mpr ⟨(q.1, e), List.mem_of_getElem? hk, rfl⟩)
    exact this rfl
  · omega
theorem zj_P {D : va_G} {cl : List vw_C} {wr w0 w1 : va_W} {A : Nat → Prop} {H H1 : Heap} (hP : va_P D cl (wr ++ w0) H) (hD : va_D A (wr ++ w0)) (hk : ∀ q : Nat, q < H.size → ¬ va_A w0 H.size q → H1[q]? = H[q]?) (hp : va_P D cl w1 H1) : va_P D cl (wr ++ w1) H1 := by
  refine zP_mem.mpr fun q hq => ?_
  rcases List.mem_append.mp hq with h | h
  · obtain ⟨a1, a2⟩ := zj_apart hP hD q h
    exact (zP_mem.mp hP q (List.mem_append_left _ h)).kept (hk q.1 a1 a2)
  · exact zP_mem.mp hp q h
theorem zj_D {D : va_G} {cl : List vw_C} {wr w0 w1 : va_W} {A : Nat → Prop} {H : Heap} (hP : va_P D cl (wr ++ w0) H) (hD : va_D A (wr ++ w0)) (hAA : ∀ q, va_A w0 H.size q → A q) (hd : va_D (va_A w0 H.size) w1) : va_D A (wr ++ w1) := by
  have h1 := zD_iff.mp (zD_left hD)
  have h2 := zD_iff.mp hd
  refine zD_iff.mpr ⟨?_, fun q hq => ?_⟩
  · rw [List.map_append]
    refine List.nodup_append.mpr ⟨h1.1, h2.1, fun a ha b hb e => ?_⟩
    obtain ⟨q, hq, rfl⟩ := List.mem_map.mp ha
    obtain ⟨q', hq', rfl⟩ := List.mem_map.mp hb
    exact (zj_apart hP hD q hq).2 (by rw [e]; exact h2.2 q' hq')
  · rcases List.mem_append.mp hq with h | h
    · exact h1.2 q h
    · exact hAA _ (h2.2 q h)
/-- an end whose world is told up to what it tells of itself -/
def zQe (G : zG) {S : Type} (F : S → Prop) (r : S → Option Value) (ws : S → va_W) (A : Nat → Prop) : Array Value → State → Outcome → State → Prop := fun _ st oc t => (∃ u : S, oc = .returned (r u) ∧ F u ∧ va_P G.1 zcl (ws u) t.heap ∧ va_D A (ws u)) ∧ va_F A st t
/-- a throwing end of that kind -/
def zXe (G : zG) {S : Type} (F : S → Prop) (E : String) (qa : Nat) (ws : S → va_W) (A : Nat → Prop) : String → Addr → State → State → Prop := fun E' q st t => (E' = E ∧ q = qa ∧ ∃ u : S, F u ∧ va_P G.1 zcl (ws u) t.heap ∧ va_D A (ws u)) ∧ va_F A st t
section ZRP
variable {p : Program} {l : Launch} {e : Env} {R : Room} {s : State} {m : MethodId} {args : Array Value} {below : List Frame} {meth : Method} {c : Code} {H : Heap} {locs : List Loc} {cells slots mc ms : Nat} {Q : State → Prop}
variable {cc : ByteArray} {pc : Nat} {ls : Array Slot} {rest st : List Value} {G : zG} {A : Nat → Prop} {H0 : Heap} {ws : va_W} {a : Array Value}
theorem zS_after {w0 : va_W} {t T' : State} {L : List Loc} (hS : va_S A H0 H locs) (hAA : ∀ q, va_A w0 H.size q → A q) (e1 : T'.heap = t.heap) (hz : H.size ≤ t.heap.size) (hk : ∀ q : Nat, q < H.size → ¬ va_A w0 H.size q → t.heap[q]? = H[q]?) (hL : ∀ q ∈ L, va_A w0 H.size q.base) : va_S A H0 T'.heap (locs ++ L) :=
  ⟨Nat.le_trans hS.1 (by rw [e1]; exact hz), fun q h1 h2 => by rw [e1, hk q (Nat.lt_of_lt_of_le h1 hS.1) (fun z => h2 (hAA q z))]; exact hS.2.1 q h1 h2, fun q hq => by
    rcases List.mem_append.mp hq with h | h
    · exact hS.2.2 q h
    · exact hAA _ (hL q h)⟩
theorem zAA {w0 wr : va_W} (hD : va_D A (wr ++ w0)) (hS : va_S A H0 H locs) (hA : ∀ q : Nat, H0.size ≤ q → A q) : ∀ q, va_A w0 H.size q → A q := by
  intro q h
  rcases h with ⟨k, e, hk⟩ | h
  · exact (zD_iff.mp hD).2 (q, e) (List.mem_append_right _ (List.mem_of_getElem? hk))
  · exact hA q (Nat.le_trans hS.1 h)
/-- a call that changes a part of the world: parts by their cells, in any order -/
theorem zr_muP {F : Prop} {wr w0 w1 wn : va_W} {r : Option Value} (h1 : ws.Perm (wr ++ w0)) (h2 : (wr ++ w1).Perm wn) (hr : va_Run p l e R s m args below meth c H locs cells slots mc ms (F0 m pc ls st) rest (zQm G F r w1 (va_A w0 H.size) a) (va_A w0 H.size)) (hP : va_P G.1 zcl ws H) (hD : va_D A ws) (hS : va_S A H0 H locs) (hA : ∀ q : Nat, H0.size ≤ q → A q)
    (k : F → ∀ (H1 : Heap) (locs1 : List Loc), va_P G.1 zcl wn H1 → va_D A wn → va_S A H0 H1 locs1 → H.size ≤ H1.size → W p l e R s m args below meth c H1 locs1 (cells + mc) (slots + ms) Q (F0 m (pc + 3) ls (r.toList ++ rest))) : W p l e R s m args below meth c H locs cells slots Q (F0 m pc ls st) := by
  have hP' := zP_perm h1 hP
  have hD' := zD_perm h1 hD
  have hAA := zAA hD' hS hA
  intro T hT X
  obtain ⟨v, st₀, t, T', L, h0, X', hL, e1, e2, ⟨⟨hv, hF, hp, hd⟩, hz, hk⟩, stp⟩ := hr T hT X
  cases hv
  rw [h0] at hz hk
  obtain ⟨t2, a1, b1⟩ := k hF T'.heap (locs ++ L) (zP_perm h2 (zj_P hP' hD' (fun q h1 h2 => by rw [e1]; exact hk q h1 h2) (by rw [e1]; exact hp))) (zD_perm h2 (zj_D hP' hD' hAA hd)) (zS_after hS hAA e1 hz hk hL) (by rw [e1]; exact hz) T' rfl X'
  exact ⟨t2, stp t2 a1, b1⟩
theorem zr_muE {S : Type} {F : S → Prop} {wr w0 : va_W} {w1 wn : S → va_W} {r : S → Option Value} (h1 : ws.Perm (wr ++ w0)) (h2 : ∀ u, (wr ++ w1 u).Perm (wn u)) (hr : va_Run p l e R s m args below meth c H locs cells slots mc ms (F0 m pc ls st) rest (zQe G F r w1 (va_A w0 H.size) a) (va_A w0 H.size)) (hP : va_P G.1 zcl ws H) (hD : va_D A ws) (hS : va_S A H0 H locs) (hA : ∀ q : Nat, H0.size ≤ q → A q)
    (k : ∀ u, F u → ∀ (H1 : Heap) (locs1 : List Loc), va_P G.1 zcl (wn u) H1 → va_D A (wn u) → va_S A H0 H1 locs1 → H.size ≤ H1.size → W p l e R s m args below meth c H1 locs1 (cells + mc) (slots + ms) Q (F0 m (pc + 3) ls ((r u).toList ++ rest))) : W p l e R s m args below meth c H locs cells slots Q (F0 m pc ls st) := by
  have hP' := zP_perm h1 hP
  have hD' := zD_perm h1 hD
  have hAA := zAA hD' hS hA
  intro T hT X
  obtain ⟨v, st₀, t, T', L, h0, X', hL, e1, e2, ⟨⟨u, hv, hF, hp, hd⟩, hz, hk⟩, stp⟩ := hr T hT X
  cases hv
  rw [h0] at hz hk
  obtain ⟨t2, a1, b1⟩ := k u hF T'.heap (locs ++ L) (zP_perm (h2 u) (zj_P hP' hD' (fun q h1 h2 => by rw [e1]; exact hk q h1 h2) (by rw [e1]; exact hp))) (zD_perm (h2 u) (zj_D hP' hD' hAA hd)) (zS_after hS hAA e1 hz hk hL) (by rw [e1]; exact hz) T' rfl X'
  exact ⟨t2, stp t2 a1, b1⟩
end ZRP
