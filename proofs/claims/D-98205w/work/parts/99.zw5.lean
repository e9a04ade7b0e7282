/-! r29: names looked up on both sides -/
section R29
variable {tape text : Nat → Int32} {zs : Nat} {ra rb fr en : Nat} {sort num bk bp tk val fp : Int32} {names trn cn : Nat → Int64} {nr nc : Nat}
theorem name_eq (h : pTx tape text zs) (h9 : zs ≤ 900) (hk : pTk tape zs (ra, rb, sort, num) (tk, fr, en, val)) : (rf_name ra rb sort tape bk bp).1 = mf_isName zs tk fr en text ∧ (mf_isName zs tk fr en text = true → pNm (rf_name ra rb sort tape bk bp).2.1 (mf_nameHere zs fr en text) ∧ (rf_name ra rb sort tape bk bp).2.2 = (bk, bp) ∧ ¬ tk = 1) ∧ (mf_isName zs tk fr en text = false → (rf_name ra rb sort tape bk bp).2.2.1 = (mf_fails tk fr fp 0 2).2.2 ∧ (rf_name ra rb sort tape bk bp).2.2.2 = (mf_fails tk fr fp 0 2).2.1) := by
  have hk' := hk
  have hw := wrong_eq (fp := fp) hk
  have hkept := kept_iff h h9 hk
  obtain ⟨k1, k2, k3, k4, k5⟩ := hk
  dsimp only at k1 k2 k3 k4 k5 hkept
  subst k1 k2
  have no : ¬ sort = 1 → ¬ tk = 2 → ((rf_name ra rb sort tape bk bp).1 = mf_isName zs tk ra rb text ∧ (mf_isName zs tk ra rb text = true → pNm (rf_name ra rb sort tape bk bp).2.1 (mf_nameHere zs ra rb text) ∧ (rf_name ra rb sort tape bk bp).2.2 = (bk, bp) ∧ ¬ tk = 1) ∧ (mf_isName zs tk ra rb text = false → (rf_name ra rb sort tape bk bp).2.2.1 = (mf_fails tk ra fp 0 2).2.2 ∧ (rf_name ra rb sort tape bk bp).2.2.2 = (mf_fails tk ra fp 0 2).2.1)) := by
    intro n1 n2
    unfold rf_name mf_isName zlet
    rw [if_neg n1, if_neg n2]
    exact ⟨rfl, fun q => (by cases q), fun _ => ⟨hw.1, hw.2.1⟩⟩
  rcases k5 with ⟨a1, a2⟩ | ⟨a1, a2, a3, a4⟩ | ⟨a1, a2, -⟩ | ⟨a1, a2, -⟩ | ⟨a1, a2, -⟩
  · exact no (by rw [a1]; decide) (by rw [a2]; decide)
  · unfold rf_name mf_isName zlet
    rw [if_pos a1, if_pos a2]
    by_cases c : 8 < nI rb - nI ra
    · rw [if_pos c, if_pos c]
      exact ⟨rfl, fun q => (by cases q), fun _ => ⟨hw.1, hw.2.1⟩⟩
    · rw [if_neg c, if_neg c]
      by_cases d : rf_isKept ra rb sort tape = true
      · rw [if_pos d, if_neg (hkept.mp d)]
        exact ⟨rfl, fun q => (by cases q), fun _ => ⟨hw.1, hw.2.1⟩⟩
      · rw [if_neg d, if_pos (Classical.not_not.mp (fun q => d (hkept.mpr q)))]
        have h8 : rb - ra ≤ 8 := by
          rw [pk_sub k3] at c
          apply Classical.byContradiction
          intro q
          exact c (nI_lt (a := 8) (b := rb - ra) (by omega) (by omega))
        have hl : pLt tape ra (rb - ra) := fun i hi => a4 (ra + i) (by omega) (by omega)
        have er : ra + (rb - ra) = rb := by omega
        have e1 : (rf_name_L41 ra rb tape (ra, 0)).2 = lN (nX tape ra (rb - ra)) := by
          have q := nX_run (fr := ra) h.1 hl ((rb - ra) + 1) 0 (ra, 0) (Nat.zero_le _) (by omega)
          rw [er] at q
          exact congrArg Prod.snd q
        have e2 : mf_nameHere zs ra rb text = lN (nM tape ra (rb - ra)) := by
          have q := nM_run (fr := ra) h h8 (by omega) hl ((rb - ra) + 1) 0 (ra, 0) (Nat.zero_le _) (by omega)
          rw [er] at q
          exact congrArg Prod.snd q
        refine ⟨rfl, fun _ => ⟨⟨tape, ra, rb - ra, by omega, h8, hl, e1, e2⟩, rfl, by rw [a2]; decide⟩, fun q => (by cases q)⟩
  · exact no (by rw [a1]; decide) (by rw [a2]; decide)
  · exact no (by rw [a1]; decide) (by rw [a2]; decide)
  · exact no (by rw [a1]; decide) (by rw [a2]; decide)
theorem find_eq {base many : Nat} {nm : Int64} (hq : ∀ k, k < many → (trn k = nm ↔ names (base + k) = mf_nameHere zs fr en text)) : tf_ruleNamed many trn nm = mf_findHere zs fr en names text base many := by
  have e : ∀ s, tf_ruleNamed_B2 many trn nm s = mf_findHere_B2 zs fr en names text base many s := by
    intro s
    unfold tf_ruleNamed_B2 mf_findHere_B2
    by_cases c : many ≤ s
    · rw [if_pos c, if_pos c]
    · rw [if_neg c, if_neg c]
      by_cases d : trn s = nm
      · rw [if_pos d, if_pos ((hq s (by omega)).mp d)]
      · rw [if_neg d, if_neg (fun q => d ((hq s (by omega)).mpr q))]
  unfold tf_ruleNamed mf_findHere tf_ruleNamed_L2 mf_findHere_L2
  rw [zw_congr e]
theorem fh_rng {base many : Nat} (hm : many ≤ 6) : (mf_findHere zs fr en names text base many = -1 ∧ ∃ z, mf_findHere_L2 zs fr en names text base many 0 = .inl z) ∨ (∃ k, k < many ∧ mf_findHere zs fr en names text base many = nI k ∧ mf_findHere_L2 zs fr en names text base many 0 = .inr (nI k)) := by
  have key : (∃ z, mf_findHere_L2 zs fr en names text base many 0 = .inl z) ∨ (∃ k, k < many ∧ mf_findHere_L2 zs fr en names text base many 0 = .inr (nI k)) := by
    refine zw_inv (f := mf_findHere_B2 zs fr en names text base many) (d := .inl 0) (fun _ => True) (fun r => (∃ z, r = .inl z) ∨ (∃ k, k < many ∧ r = .inr (nI k))) (fun _ _ _ _ => trivial) ?_ (Or.inl ⟨0, rfl⟩) _ _ trivial
    intro s r _ e
    unfold mf_findHere_B2 at e
    by_cases c : many ≤ s
    · rw [if_pos c] at e
      injection e with e
      exact Or.inl ⟨s, e.symm⟩
    · rw [if_neg c] at e
      by_cases d : names (base + s) = mf_nameHere zs fr en text
      · rw [if_pos d] at e
        injection e with e
        exact Or.inr ⟨s, by omega, e.symm⟩
      · rw [if_neg d] at e
        cases e
  rcases key with ⟨z, hz⟩ | ⟨k, hk, hz⟩
  · refine Or.inl ⟨?_, z, hz⟩
    unfold mf_findHere
    rw [hz]
    rfl
  · refine Or.inr ⟨k, hk, ?_, hz⟩
    unfold mf_findHere
    rw [hz]
    rfl
theorem taken_iff {nm : Int64} (hr6 : nr ≤ 6) (hc6 : nc ≤ 6) (hr : ∀ k, k < nr → (trn k = nm ↔ names (40 + k) = mf_nameHere zs fr en text)) (hc : ∀ k, k < nc → (cn k = nm ↔ names (44 + k) = mf_nameHere zs fr en text)) : tf_isTaken nr nc trn cn nm = true ↔ ¬ (mf_findHere zs fr en names text 40 nr = -1 ∧ mf_findHere zs fr en names text 44 nc = -1) := by
  have hm : ∀ k : Nat, k < 6 → ¬ nI k = -1 := fun k hk q => nI_pos (n := k) (by omega) (by rw [q]; decide)
  have e : tf_isTaken_L2 nc cn nm 0 = (mf_findHere_L2 zs fr en names text 44 nc 0).map id (fun _ => true) := by
    unfold tf_isTaken_L2 mf_findHere_L2
    refine zw_map (f := mf_findHere_B2 zs fr en names text 44 nc) (g := tf_isTaken_B2 nc cn nm) (d := .inl 0) (d' := .inl 0) (fun r => r.map id (fun _ => true)) rfl (fun s => ?_) _ _
    unfold tf_isTaken_B2 mf_findHere_B2
    by_cases c : nc ≤ s
    · rw [if_pos c, if_pos c]; rfl
    · rw [if_neg c, if_neg c]
      by_cases d : cn s = nm
      · rw [if_pos d, if_pos ((hc s (by omega)).mp d)]; rfl
      · rw [if_neg d, if_neg (fun q => d ((hc s (by omega)).mpr q))]; rfl
  have ef := find_eq (nm := nm) (many := nr) hr
  unfold tf_isTaken
  rw [e, ef]
  rcases fh_rng (zs := zs) (fr := fr) (en := en) (names := names) (text := text) (base := 44) hc6 with ⟨g1, z, g2⟩ | ⟨k, hk, g1, g2⟩
  · rw [g2, g1]
    show (if mf_findHere zs fr en names text 40 nr < 0 then false else true) = true ↔ _
    rcases fh_rng (zs := zs) (fr := fr) (en := en) (names := names) (text := text) (base := 40) hr6 with ⟨f1, -⟩ | ⟨j, hj, f1, -⟩
    · rw [f1, if_pos (by decide)]
      exact ⟨fun q => (by cases q), fun q => absurd ⟨rfl, rfl⟩ q⟩
    · rw [f1, if_neg (nI_pos (by omega))]
      exact ⟨fun _ q => hm j (by omega) q.1, fun _ => rfl⟩
  · rw [g2, g1]
    exact ⟨fun _ q => hm k (by omega) q.2, fun _ => rfl⟩
/-- a new name: x's next and fresh against the model's newOne -/
theorem new_eq {at_ : Nat → Int32} {many most srt c : Nat} (h : pTx tape text zs) (h9 : zs ≤ 900) (hk : pTk tape zs (ra, rb, sort, num) (tk, fr, en, val)) (hcnt : (at_ (1640 + many)).toNatClampNeg = c) (hne : ¬ c = most) (hnr : (at_ 1645).toNatClampNeg = nr) (hnc : (at_ 1646).toNatClampNeg = nc) (hr6 : nr ≤ 6) (hc6 : nc ≤ 6) (hr : ∀ k, k < nr → pNm (trn k) (names (40 + k))) (hc : ∀ k, k < nc → pNm (cn k) (names (44 + k))) : pRd tape zs en ((rf_fresh zs (rf_next zs rb num tape).1 (rf_next zs rb num tape).2.1 (rf_next zs rb num tape).2.2.1 (rf_next zs rb num tape).2.2.2 tape bk bp nr nc trn cn).1, (rf_fresh zs (rf_next zs rb num tape).1 (rf_next zs rb num tape).2.1 (rf_next zs rb num tape).2.2.1 (rf_next zs rb num tape).2.2.2 tape bk bp nr nc trn cn).2.2) ((mf_newOne zs tk fr en val fp 0 at_ names text many most srt).1, (mf_newOne zs tk fr en val fp 0 at_ names text many most srt).2.1, (mf_newOne zs tk fr en val fp 0 at_ names text many most srt).2.2.1, (mf_newOne zs tk fr en val fp 0 at_ names text many most srt).2.2.2.1, (mf_newOne zs tk fr en val fp 0 at_ names text many most srt).2.2.2.2.1, (mf_newOne zs tk fr en val fp 0 at_ names text many most srt).2.2.2.2.2.1, (mf_newOne zs tk fr en val fp 0 at_ names text many most srt).2.2.2.2.2.2.1) ∧ ((mf_newOne zs tk fr en val fp 0 at_ names text many most srt).1 = true → ∃ M, pNm (rf_fresh zs (rf_next zs rb num tape).1 (rf_next zs rb num tape).2.1 (rf_next zs rb num tape).2.2.1 (rf_next zs rb num tape).2.2.2 tape bk bp nr nc trn cn).2.1 M ∧ (mf_newOne zs tk fr en val fp 0 at_ names text many most srt).2.2.2.2.2.2.2 = vp_updL names (40 + srt + c) M) := by
  obtain ⟨q1, q2⟩ := next_tk (num := num) h h9 hk.2.1 hk.2.2.2.1
  have em : mf_newOne zs tk fr en val fp 0 at_ names text many most srt = (fun t_2 : Int32 × Nat × Nat × Int32 => (if (mf_isName zs t_2.1 t_2.2.1 t_2.2.2.1 text) = true then (if (mf_findHere zs t_2.2.1 t_2.2.2.1 names text 40 nr) = (-1) then (if (mf_findHere zs t_2.2.1 t_2.2.2.1 names text 44 nc) = (-1) then (true, (mf_onward zs t_2.2.2.1 text).1, (mf_onward zs t_2.2.2.1 text).2.1, (mf_onward zs t_2.2.2.1 text).2.2.1, (mf_onward zs t_2.2.2.1 text).2.2.2, fp, 0, vp_updL names (40 + srt + c) (mf_nameHere zs t_2.2.1 t_2.2.2.1 text)) else ((mf_fails t_2.1 t_2.2.1 fp 0 3).1, t_2.1, t_2.2.1, t_2.2.2.1, t_2.2.2.2, (mf_fails t_2.1 t_2.2.1 fp 0 3).2.1, (mf_fails t_2.1 t_2.2.1 fp 0 3).2.2, names)) else ((mf_fails t_2.1 t_2.2.1 fp 0 3).1, t_2.1, t_2.2.1, t_2.2.2.1, t_2.2.2.2, (mf_fails t_2.1 t_2.2.1 fp 0 3).2.1, (mf_fails t_2.1 t_2.2.1 fp 0 3).2.2, names)) else ((mf_fails t_2.1 t_2.2.1 fp 0 2).1, t_2.1, t_2.2.1, t_2.2.2.1, t_2.2.2.2, (mf_fails t_2.1 t_2.2.1 fp 0 2).2.1, (mf_fails t_2.1 t_2.2.1 fp 0 2).2.2, names))) (mf_onward zs en text) := by
    unfold mf_newOne zlet
    rw [hcnt, if_neg hne, hnr, hnc]
  rw [em]
  generalize rf_next zs rb num tape = x at q1 ⊢
  generalize mf_onward zs en text = m at q1 q2 ⊢
  obtain ⟨x1, x2, x3, x4⟩ := x
  obtain ⟨m1, m2, m3, m4⟩ := m
  obtain ⟨n1, n2, n3⟩ := name_eq (bk := bk) (bp := bp) (fp := fp) h h9 q1
  have hff := (wrong_eq (fp := fp) q1).2.2
  have hra := q1.1
  dsimp only at n1 n2 n3 q2 hra ⊢
  unfold rf_fresh zlet bf_at
  dsimp only
  by_cases c1 : mf_isName zs m1 m2 m3 text = true
  · rw [if_pos c1, if_pos (n1.trans c1)]
    obtain ⟨p1, p2, p3⟩ := n2 c1
    have ht := taken_iff (zs := zs) (fr := m2) (en := m3) (text := text) (nm := (rf_name x1 x2 x3 tape bk bp).2.1) hr6 hc6 (fun k hk => pNm_eq (hr k hk) p1) (fun k hk => pNm_eq (hc k hk) p1)
    by_cases c2 : tf_isTaken nr nc trn cn (rf_name x1 x2 x3 tape bk bp).2.1 = true
    · have hz := ht.mp c2
      rw [if_pos c2, fails_k p3]
      have hne3 : (0 : Int32) < 3 := by decide
      by_cases c3 : mf_findHere zs m2 m3 names text 40 nr = -1
      · rw [if_pos c3, if_neg (fun q => hz ⟨c3, q⟩)]
        exact ⟨⟨rfl, fun q => (by cases q), fun _ => ⟨rfl, congrArg nI hra, hne3⟩⟩, fun q => (by cases q)⟩
      · rw [if_neg c3]
        exact ⟨⟨rfl, fun q => (by cases q), fun _ => ⟨rfl, congrArg nI hra, hne3⟩⟩, fun q => (by cases q)⟩
    · have hz := Classical.not_not.mp (fun q => c2 (ht.mpr q))
      rw [if_neg c2, if_pos hz.1, if_pos hz.2]
      obtain ⟨g1, g2⟩ := next_tk (num := x4) h h9 q1.2.1 q1.2.2.2.1
      dsimp only at g1 g2
      have hmm := q1.2.2.1
      dsimp only at hmm
      refine ⟨⟨rfl, fun _ => ⟨g1, rfl, ?_⟩, fun q => (by cases q)⟩, fun _ => ⟨_, p1, rfl⟩⟩
      show en ≤ (mf_onward zs m3 text).2.1
      omega
  · have c1' : mf_isName zs m1 m2 m3 text = false := by
      cases hb : mf_isName zs m1 m2 m3 text
      · rfl
      · exact absurd hb c1
    obtain ⟨w1, w2⟩ := n3 c1'
    rw [if_neg c1, if_neg (fun q => c1 (n1.symm.trans q)), hff.2]
    exact ⟨⟨rfl, fun q => (by cases q), fun _ => ⟨w1, w2, hff.1⟩⟩, fun q => (by cases q)⟩
end R29
