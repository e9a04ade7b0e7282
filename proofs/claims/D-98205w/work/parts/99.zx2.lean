/-! r35: a text opened on both sides -/
section R35
variable {tape text : Nat → Int32} {tp zs fr en most : Nat} {fk fa nn tk val fp fl seen : Int32}
theorem cp_text (hB : pBt tape) (q : Int32) : ∀ n k, k < n → zf (mf_begins_B26 tape q) text n k = tape k := by
  intro n
  induction n with
  | zero => exact fun k hk => absurd hk (Nat.not_lt_zero _)
  | succ n ih =>
    intro k hk
    show upd (zf (mf_begins_B26 tape q) text n) n (vp_nar .byte (tape n)) k = tape k
    by_cases e : k = n
    · subst e; rw [pk_us]; exact hB k
    · rw [pk_un e]; exact ih k (by omega)
theorem begin_no (hno : (xf_opens tp fk fa nn (nI most)).1 = false) : xf_opens tp fk fa nn (nI most) = (false, tp, fk, fa, 1) ∧ mf_begins (nI tp) zs tk fr en val fp fl seen tape text nn most = (false, nI tp, zs, tk, fr, en, val, fp, fl, seen, text) := by
  unfold xf_opens at hno ⊢
  unfold mf_begins
  by_cases c1 : nn < 0
  · rw [if_pos c1, if_pos c1]; exact ⟨rfl, rfl⟩
  · rw [if_neg c1] at hno
    rw [if_neg c1, if_neg c1]
    by_cases c2 : nI tp < nn
    · rw [if_pos c2, if_pos c2]; exact ⟨rfl, rfl⟩
    · rw [if_neg c2] at hno
      rw [if_neg c2, if_neg c2]
      by_cases c3 : nn ≤ nI most
      · rw [if_pos c3] at hno; cases hno
      · rw [if_neg c3, if_neg c3]; exact ⟨rfl, rfl⟩
theorem begin_yes (hB : pBt tape) (htp : tp ≤ 900) (hm : most ≤ 900) (hyes : (xf_opens tp fk fa nn (nI most)).1 = true) : ∃ (rz : Nat) (text' : Nat → Int32), nn = nI rz ∧ rz ≤ most ∧ rz ≤ tp ∧ pTx tape text' rz ∧ xf_opens tp fk fa nn (nI most) = (true, 0, 0, -1, 0) ∧ mf_begins (nI tp) zs tk fr en val fp fl seen tape text nn most = (true, 0, rz, (mf_onward rz 0 text').1, (mf_onward rz 0 text').2.1, (mf_onward rz 0 text').2.2.1, (mf_onward rz 0 text').2.2.2, -1, 0, 0, text') ∧ pTk tape rz (cf_Reader tape rz) (mf_onward rz 0 text') := by
  unfold xf_opens at hyes ⊢
  unfold mf_begins
  by_cases c1 : nn < 0
  · rw [if_pos c1] at hyes; cases hyes
  · rw [if_neg c1] at hyes
    by_cases c2 : nI tp < nn
    · rw [if_pos c2] at hyes; cases hyes
    · rw [if_neg c2] at hyes
      by_cases c3 : nn ≤ nI most
      · rw [if_neg c1, if_neg c2, if_pos c3, if_neg c1, if_neg c2, if_pos c3]
        have e := z_nn c1
        have h1 : nn.toNatClampNeg ≤ most := z_le most (by omega) c1 c3
        have h2 : nn.toNatClampNeg ≤ tp := z_ngt tp (by omega) c1 c2
        have hT : pTx tape (mf_begins_L26 tape nn text) nn.toNatClampNeg := ⟨hB, fun k hk => cp_text hB nn nn.toNatClampNeg k hk⟩
        exact ⟨nn.toNatClampNeg, mf_begins_L26 tape nn text, e, h1, h2, hT, rfl, rfl, (next_tk (num := 0) hT (by omega) rfl (Nat.zero_le _)).1⟩
      · rw [if_neg c3] at hyes; cases hyes
end R35
