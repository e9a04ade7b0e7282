/-! r30: sets of numbers: x's set against the model's neighbours -/
section R30
variable {tape text : Nat → Int32} {zs : Nat} {bk bp fp : Int32} {at_ : Nat → Int32} {to : Nat}
theorem upd_upd (f : Nat → Int32) (o : Nat) (u v : Int32) : upd (upd f o u) o v = upd f o v := by
  funext j
  by_cases e : j = o
  · subst e; rw [pk_us, pk_us]
  · rw [pk_un e, pk_un e, pk_un e]
theorem set_run (h : pTx tape text zs) (h9 : zs ≤ 900) (t2 : Nat × Nat × Int32 × Int32) (tk0 : Int32) (en0 : Nat) (d : (Int32 × Nat × Nat × Int32 × Int32 × Int32 × Int32) ⊕ (Bool × Int32 × Nat × Nat × Int32 × Int32 × Int32 × Int32)) (d' : (Int32 × Nat × Nat × Int32 × (Nat → Int32)) ⊕ (Bool × Int32 × Nat × Nat × Int32 × Int32 × Int32 × (Nat → Int32))) : ∀ n n' ra rb sort num fr en val (set : Int32), pTk tape zs (ra, rb, sort, num) (3, fr, en, val) → zs - ra < n → 2 * (zs - en) + 1 < n' → pRd tape zs en ((zcase (zw (rf_set_B16 zs tape t2) d n (set, ra, rb, sort, num, bk, bp)) (fun t_3 => (true, t_3.1, t_3.2.1, t_3.2.2.1, t_3.2.2.2.1, t_3.2.2.2.2.1, t_3.2.2.2.2.2.1, t_3.2.2.2.2.2.2)) (fun r => r)).1, (zcase (zw (rf_set_B16 zs tape t2) d n (set, ra, rb, sort, num, bk, bp)) (fun t_3 => (true, t_3.1, t_3.2.1, t_3.2.2.1, t_3.2.2.2.1, t_3.2.2.2.2.1, t_3.2.2.2.2.2.1, t_3.2.2.2.2.2.2)) (fun r => r)).2.2) ((zcase (zw (mf_neighbours_B14 zs tk0 en0 fp 0 text to) d' n' (3, fr, en, val, upd at_ to set)) (fun t_2 => (true, t_2.1, t_2.2.1, t_2.2.2.1, t_2.2.2.2.1, fp, 0, t_2.2.2.2.2)) (fun r => r)).1, (zcase (zw (mf_neighbours_B14 zs tk0 en0 fp 0 text to) d' n' (3, fr, en, val, upd at_ to set)) (fun t_2 => (true, t_2.1, t_2.2.1, t_2.2.2.1, t_2.2.2.2.1, fp, 0, t_2.2.2.2.2)) (fun r => r)).2.1, (zcase (zw (mf_neighbours_B14 zs tk0 en0 fp 0 text to) d' n' (3, fr, en, val, upd at_ to set)) (fun t_2 => (true, t_2.1, t_2.2.1, t_2.2.2.1, t_2.2.2.2.1, fp, 0, t_2.2.2.2.2)) (fun r => r)).2.2.1, (zcase (zw (mf_neighbours_B14 zs tk0 en0 fp 0 text to) d' n' (3, fr, en, val, upd at_ to set)) (fun t_2 => (true, t_2.1, t_2.2.1, t_2.2.2.1, t_2.2.2.2.1, fp, 0, t_2.2.2.2.2)) (fun r => r)).2.2.2.1, (zcase (zw (mf_neighbours_B14 zs tk0 en0 fp 0 text to) d' n' (3, fr, en, val, upd at_ to set)) (fun t_2 => (true, t_2.1, t_2.2.1, t_2.2.2.1, t_2.2.2.2.1, fp, 0, t_2.2.2.2.2)) (fun r => r)).2.2.2.2.1, (zcase (zw (mf_neighbours_B14 zs tk0 en0 fp 0 text to) d' n' (3, fr, en, val, upd at_ to set)) (fun t_2 => (true, t_2.1, t_2.2.1, t_2.2.2.1, t_2.2.2.2.1, fp, 0, t_2.2.2.2.2)) (fun r => r)).2.2.2.2.2.1, (zcase (zw (mf_neighbours_B14 zs tk0 en0 fp 0 text to) d' n' (3, fr, en, val, upd at_ to set)) (fun t_2 => (true, t_2.1, t_2.2.1, t_2.2.2.1, t_2.2.2.2.1, fp, 0, t_2.2.2.2.2)) (fun r => r)).2.2.2.2.2.2.1) ∧ ((zcase (zw (mf_neighbours_B14 zs tk0 en0 fp 0 text to) d' n' (3, fr, en, val, upd at_ to set)) (fun t_2 => (true, t_2.1, t_2.2.1, t_2.2.2.1, t_2.2.2.2.1, fp, 0, t_2.2.2.2.2)) (fun r => r)).1 = true → (zcase (zw (mf_neighbours_B14 zs tk0 en0 fp 0 text to) d' n' (3, fr, en, val, upd at_ to set)) (fun t_2 => (true, t_2.1, t_2.2.1, t_2.2.2.1, t_2.2.2.2.1, fp, 0, t_2.2.2.2.2)) (fun r => r)).2.2.2.2.2.2.2 = upd at_ to ((zcase (zw (rf_set_B16 zs tape t2) d n (set, ra, rb, sort, num, bk, bp)) (fun t_3 => (true, t_3.1, t_3.2.1, t_3.2.2.1, t_3.2.2.2.1, t_3.2.2.2.2.1, t_3.2.2.2.2.2.1, t_3.2.2.2.2.2.2)) (fun r => r)).2.1)) := by
  intro n
  induction n with
  | zero => exact fun n' ra rb sort num fr en val set _ hn => absurd hn (Nat.not_lt_zero _)
  | succ n ih =>
    intro n' ra rb sort num fr en val set hk hn hn'
    obtain ⟨n', rfl⟩ : ∃ m, n' = m + 1 := ⟨n' - 1, by omega⟩
    have hk' := hk
    obtain ⟨k1, k2, k3, k4, k5⟩ := hk
    dsimp only at k1 k2 k3 k4 k5
    rcases k5 with ⟨-, a2⟩ | ⟨-, a2, -⟩ | ⟨a1, -, a3, v, v1, v2, v3⟩ | ⟨-, a2, -⟩ | ⟨-, a2, -⟩
    · exact absurd a2 (by decide)
    · exact absurd a2 (by decide)
    · subst k1 k2 v2 v3 a1
      have hf : ∀ kind : Int32, mf_fails 3 ra fp 0 kind = (false, nI ra, kind) := fun kind => fails_k (by decide)
      have h0 : ¬ nI v < 0 := nI_pos (by omega)
      by_cases c : nI v ≤ 4
      · have en_ : rf_number zs ra rb 2 (nI v) tape bk bp 0 4 = (true, nI v, (rf_next zs rb (nI v) tape).1, (rf_next zs rb (nI v) tape).2.1, (rf_next zs rb (nI v) tape).2.2.1, (rf_next zs rb (nI v) tape).2.2.2, bk, bp) := by
          unfold rf_number zlet
          rw [if_pos rfl, if_neg h0, if_pos c]
        by_cases g : ((set >>> (nI v &&& 31)) &&& 1) = 1
        · have ex : rf_set_B16 zs tape t2 (set, ra, rb, 2, nI v, bk, bp) = .inr (.inr (false, 0, (rf_next zs rb (nI v) tape).1, (rf_next zs rb (nI v) tape).2.1, (rf_next zs rb (nI v) tape).2.2.1, (rf_next zs rb (nI v) tape).2.2.2, 5, nI ra)) := by
            unfold rf_set_B16 zlet bf_at
            dsimp only
            rw [en_]
            dsimp only
            rw [if_pos rfl, if_pos g]
          have em : mf_neighbours_B14 zs tk0 en0 fp 0 text to (3, ra, rb, nI v, upd at_ to set) = .inr (.inr (false, 3, ra, rb, nI v, nI ra, 5, upd at_ to set)) := by
            unfold mf_neighbours_B14 zlet
            dsimp only
            rw [if_pos rfl, if_pos c, if_pos (show (((upd at_ to set to) >>> (nI v &&& 31)) &&& 1) = 1 by rw [pk_us]; exact g), hf 5]
          rw [zw_r ex, zw_r em]
          exact ⟨⟨rfl, fun q => (by cases q), fun _ => ⟨rfl, rfl, (by show (0 : Int32) < 5; decide)⟩⟩, fun q => (by cases q)⟩
        · obtain ⟨q1, q2⟩ := next_tk (num := nI v) (rb := rb) h h9 rfl k4
          have em : mf_neighbours_B14 zs tk0 en0 fp 0 text to (3, ra, rb, nI v, upd at_ to set) = .inl ((mf_onward zs rb text).1, (mf_onward zs rb text).2.1, (mf_onward zs rb text).2.2.1, (mf_onward zs rb text).2.2.2, upd at_ to (set ||| ((1 : Int32) <<< (nI v &&& 31)))) := by
            unfold mf_neighbours_B14 zlet
            dsimp only
            rw [if_pos rfl, if_pos c, if_neg (show ¬ (((upd at_ to set to) >>> (nI v &&& 31)) &&& 1) = 1 by rw [pk_us]; exact g), upd_upd, pk_us]
          have ex : rf_set_B16 zs tape t2 (set, ra, rb, 2, nI v, bk, bp) = if (rf_next zs rb (nI v) tape).2.2.1 = 2 then .inl (set ||| ((1 : Int32) <<< (nI v &&& 31)), (rf_next zs rb (nI v) tape).1, (rf_next zs rb (nI v) tape).2.1, (rf_next zs rb (nI v) tape).2.2.1, (rf_next zs rb (nI v) tape).2.2.2, bk, bp) else .inr (.inl (set ||| ((1 : Int32) <<< (nI v &&& 31)), (rf_next zs rb (nI v) tape).1, (rf_next zs rb (nI v) tape).2.1, (rf_next zs rb (nI v) tape).2.2.1, (rf_next zs rb (nI v) tape).2.2.2, bk, bp)) := by
            unfold rf_set_B16 zlet bf_at
            dsimp only
            rw [en_]
            dsimp only
            rw [if_pos rfl, if_neg g]
          rw [zw_l em]
          generalize rf_next zs rb (nI v) tape = x at q1 ex
          generalize mf_onward zs rb text = m at q1 q2 ⊢
          obtain ⟨x1, x2, x3, x4⟩ := x
          obtain ⟨m1, m2, m3, m4⟩ := m
          dsimp only at q2 ex ⊢
          have q1' := q1
          obtain ⟨j1, j2, j3, j4, j5⟩ := q1
          dsimp only at j1 j2 j3 j4 j5
          by_cases f : x3 = 2
          · have hm1 : m1 = 3 := by
              rcases j5 with ⟨b1, -⟩ | ⟨b1, -⟩ | ⟨-, b2, -⟩ | ⟨b1, -⟩ | ⟨b1, -⟩
              · exact absurd (b1.symm.trans f) (by decide)
              · exact absurd (b1.symm.trans f) (by decide)
              · exact b2
              · exact absurd (b1.symm.trans f) (by decide)
              · exact absurd (b1.symm.trans f) (by decide)
            have hlt : m2 < m3 := by
              rcases j5 with ⟨b1, -⟩ | ⟨b1, -⟩ | ⟨-, -, b3, -⟩ | ⟨b1, -⟩ | ⟨b1, -⟩
              · exact absurd (b1.symm.trans f) (by decide)
              · exact absurd (b1.symm.trans f) (by decide)
              · exact b3
              · exact absurd (b1.symm.trans f) (by decide)
              · exact absurd (b1.symm.trans f) (by decide)
            rw [if_pos f] at ex
            rw [zw_l ex]
            subst hm1
            obtain ⟨r1, r2⟩ := ih n' x1 x2 x3 x4 m2 m3 m4 (set ||| ((1 : Int32) <<< (nI v &&& 31))) q1' (by omega) (by omega)
            refine ⟨⟨r1.1, fun q => ?_, r1.2.2⟩, r2⟩
            obtain ⟨s1, s2, s3⟩ := r1.2.1 q
            exact ⟨s1, s2, by omega⟩
          · have hm1 : ¬ m1 = 3 := by
              intro q
              rcases j5 with ⟨-, b2⟩ | ⟨-, b2, -⟩ | ⟨b1, -⟩ | ⟨-, b2, -⟩ | ⟨-, b2, -⟩
              · exact absurd (b2.symm.trans q) (by decide)
              · exact absurd (b2.symm.trans q) (by decide)
              · exact f b1
              · exact absurd (b2.symm.trans q) (by decide)
              · exact absurd (b2.symm.trans q) (by decide)
            rw [if_neg f] at ex
            obtain ⟨n'', rfl⟩ : ∃ z, n' = z + 1 := ⟨n' - 1, by omega⟩
            have em2 : mf_neighbours_B14 zs tk0 en0 fp 0 text to (m1, m2, m3, m4, upd at_ to (set ||| ((1 : Int32) <<< (nI v &&& 31)))) = .inr (.inl (m1, m2, m3, m4, upd at_ to (set ||| ((1 : Int32) <<< (nI v &&& 31))))) := by
              unfold mf_neighbours_B14
              dsimp only
              rw [if_neg hm1]
            rw [zw_r ex, zw_r em2]
            exact ⟨⟨rfl, fun _ => ⟨q1', rfl, q2⟩, fun q => (by cases q)⟩, fun _ => rfl⟩
      · have ex : rf_set_B16 zs tape t2 (set, ra, rb, 2, nI v, bk, bp) = .inr (.inr (false, 0, ra, rb, 2, nI v, 4, nI ra)) := by
          unfold rf_set_B16 rf_number zlet bf_at
          dsimp only
          rw [if_pos rfl, if_neg h0, if_neg c]
          rfl
        have em : mf_neighbours_B14 zs tk0 en0 fp 0 text to (3, ra, rb, nI v, upd at_ to set) = .inr (.inr (false, 3, ra, rb, nI v, nI ra, 4, upd at_ to set)) := by
          unfold mf_neighbours_B14 zlet
          dsimp only
          rw [if_pos rfl, if_neg c, hf 4]
        rw [zw_r ex, zw_r em]
        exact ⟨⟨rfl, fun q => (by cases q), fun _ => ⟨rfl, rfl, (by show (0 : Int32) < 4; decide)⟩⟩, fun q => (by cases q)⟩
    · exact absurd a2 (by decide)
    · exact absurd a2 (by decide)
end R30
