/-! r40: the place of a fault through the loops -/
section R40
theorem rows_fp (t1 : Bool × Int32 × Nat × Int32 × Nat × Nat × Int32 × Int32 × Int32 × Int32 × (Nat → Int32)) (t4 s d : Bool × Int32 × Nat × Nat × Int32 × Int32 × Int32 × (Nat → Int32)) (n : Nat) (c : Int32) (hd : d.2.2.2.2.2.2.1 = 0 → d.2.2.2.2.2.1 = c) (hs : s.2.2.2.2.2.2.1 = 0 → s.2.2.2.2.2.1 = c) : (zw (mf_town_B29 t1 t4) d n s).2.2.2.2.2.2.1 = 0 → (zw (mf_town_B29 t1 t4) d n s).2.2.2.2.2.1 = c := by
  refine zw_inv (fun s : Bool × Int32 × Nat × Nat × Int32 × Int32 × Int32 × (Nat → Int32) => s.2.2.2.2.2.2.1 = 0 → s.2.2.2.2.2.1 = c) (fun s : Bool × Int32 × Nat × Nat × Int32 × Int32 × Int32 × (Nat → Int32) => s.2.2.2.2.2.2.1 = 0 → s.2.2.2.2.2.1 = c) ?_ ?_ hd n s hs
  · intro s s' hs e
    unfold mf_town_B29 zlet at e
    split at e
    · split at e
      · cases e
        exact fun h => (row_fp h).2.trans (hs (row_fp h).1)
      · cases e
    · cases e
  · intro s r hs e
    unfold mf_town_B29 zlet at e
    split at e
    · split at e
      · cases e
      · cases e; exact hs
    · cases e; exact hs
theorem parts_fp (t1 : Bool × Int32 × Nat × Int32 × Nat × Nat × Int32 × Int32 × Int32 × Int32 × (Nat → Int32)) (t5 : Bool × Int32 × Nat × Nat × Int32 × Int32 × Int32 × (Nat → Int32)) (s d : yP9) (n : Nat) (c : Int32) (hd : d.2.2.2.2.2.2.1 = 0 → d.2.2.2.2.2.1 = c) (hs : s.2.2.2.2.2.2.1 = 0 → s.2.2.2.2.2.1 = c) : (zw (mf_town_B72b t1 t5) d n s).2.2.2.2.2.2.1 = 0 → (zw (mf_town_B72b t1 t5) d n s).2.2.2.2.2.1 = c := by
  refine zw_inv (fun s : yP9 => s.2.2.2.2.2.2.1 = 0 → s.2.2.2.2.2.1 = c) (fun s : yP9 => s.2.2.2.2.2.2.1 = 0 → s.2.2.2.2.2.1 = c) ?_ ?_ hd n s hs
  · intro s s' hs e
    unfold mf_town_B72b zlet at e
    split at e
    · split at e
      · cases e
      · cases e
        exact fun h => (part_p.2.2 h).2.trans (hs (part_p.2.2 h).1)
    · cases e
  · intro s r hs e
    unfold mf_town_B72b zlet at e
    split at e
    · split at e
      · cases e; exact hs
      · cases e
    · cases e; exact hs
end R40
