/-! rt: the tails of rf_town and mf_town, as functions of their own -/
def xTl (rz : Nat) (r_picture : Int32) (xtape : Nat → Int32) (R : Nat) (thouses : Int32) (talways : Int32) (tnever : Int32) (nr : Nat) (nc : Nat) (tbeside : Nat → Int32) (tleast : Nat → Int32) (tmost : Nat → Int32) (trnames : Nat → Int64) (cnames : Nat → Int64) (tborn : Nat → Int32) (tstays : Nat → Int32) (t_2 : Bool × Int32 × Nat × Nat × Int32 × Int32 × Int32 × Int32) (t_4 : Bool × Nat × Nat × Int32 × Int32 × Int32 × Int32) : yP23 :=
        (if t_4.1 = true then
          zcase (rf_town_L51b rz xtape nr nc tbeside tleast tmost trnames cnames tborn tstays t_2 t_4 (t_4.2.1, t_4.2.2.1, t_4.2.2.2.1, t_4.2.2.2.2.1, r_picture, t_4.2.2.2.2.2.1, t_4.2.2.2.2.2.2, 0, 0, talways, tnever)) (fun t_5 =>
          (if t_5.2.2.2.2.2.2.2.1 = 0 then
            zlet (rf_wrong t_5.1 t_5.2.2.1) (fun t_19 =>
            (false, t_5.1, t_5.2.1, t_5.2.2.1, t_5.2.2.2.1, t_5.2.2.2.2.1, t_19.1, t_19.2, t_2.2.1.toNatClampNeg, t_5.2.2.2.2.2.2.2.1, t_5.2.2.2.2.2.2.2.2.1, t_5.2.2.2.2.2.2.2.2.2.1, t_5.2.2.2.2.2.2.2.2.2.2, nr, nc, rf_isWord t_2.2.2.1 t_2.2.2.2.1 t_2.2.2.2.2.1 xtape 11, tbeside, tleast, tmost, trnames, cnames, tborn, tstays))
          else
            zcase (rf_town_L80b rz xtape tbeside t_2 t_5 (t_5.1, t_5.2.1, t_5.2.2.1, t_5.2.2.2.1, t_5.2.2.2.2.2.1, t_5.2.2.2.2.2.2.1, nr, nc, tleast, tmost, trnames, cnames, tborn, tstays)) (fun t_9 =>
            zlet (tf_settles t_2.2.1.toNatClampNeg t_5.2.2.2.2.2.2.2.1 t_5.2.2.2.2.2.2.2.2.1 (rf_isWord t_2.2.2.1 t_2.2.2.2.1 t_2.2.2.2.2.1 xtape 11) tbeside) (fun t_18 =>
            (true, t_9.1, t_9.2.1, t_9.2.2.1, t_9.2.2.2.1, t_5.2.2.2.2.1, t_9.2.2.2.2.1, t_9.2.2.2.2.2.1, t_2.2.1.toNatClampNeg, t_5.2.2.2.2.2.2.2.1, t_5.2.2.2.2.2.2.2.2.1, t_5.2.2.2.2.2.2.2.2.2.1, t_5.2.2.2.2.2.2.2.2.2.2, t_9.2.2.2.2.2.2.1, t_9.2.2.2.2.2.2.2.1, rf_isWord t_2.2.2.1 t_2.2.2.2.1 t_2.2.2.2.2.1 xtape 11, t_18, t_9.2.2.2.2.2.2.2.2.1, t_9.2.2.2.2.2.2.2.2.2.1, t_9.2.2.2.2.2.2.2.2.2.2.1, t_9.2.2.2.2.2.2.2.2.2.2.2.1, t_9.2.2.2.2.2.2.2.2.2.2.2.2.1, t_9.2.2.2.2.2.2.2.2.2.2.2.2.2))) (fun r => r))) (fun r => r)
        else
          (false, t_4.2.1, t_4.2.2.1, t_4.2.2.2.1, t_4.2.2.2.2.1, r_picture, t_4.2.2.2.2.2.1, t_4.2.2.2.2.2.2, t_2.2.1.toNatClampNeg, R, thouses, talways, tnever, nr, nc, rf_isWord t_2.2.2.1 t_2.2.2.2.1 t_2.2.2.2.2.1 xtape 11, tbeside, tleast, tmost, trnames, cnames, tborn, tstays))
set_option maxRecDepth 100000 in
theorem rf_town_tl (rz : Nat) (ra : Nat) (rb : Nat) (r_sort : Int32) (r_number : Int32) (r_picture : Int32) (xtape : Nat → Int32) (b_kind : Int32) (b_place : Int32) (Wd : Nat) (R : Nat) (thouses : Int32) (talways : Int32) (tnever : Int32) (nr : Nat) (nc : Nat) (tring : Bool) (tbeside : Nat → Int32) (tleast : Nat → Int32) (tmost : Nat → Int32) (trnames : Nat → Int64) (cnames : Nat → Int64) (tborn : Nat → Int32) (tstays : Nat → Int32) : rf_town rz ra rb r_sort r_number r_picture xtape b_kind b_place Wd R thouses talways tnever nr nc tring tbeside tleast tmost trnames cnames tborn tstays =
  zlet (rf_word rz ra rb r_sort r_number xtape b_kind b_place 10) (fun t_1 =>
  (if t_1.1 = true then
    zlet (rf_number rz t_1.2.1 t_1.2.2.1 t_1.2.2.2.1 t_1.2.2.2.2.1 xtape t_1.2.2.2.2.2.1 t_1.2.2.2.2.2.2 1 5) (fun t_2 =>
    (if t_2.1 = true then
      (if (rf_isWord t_2.2.2.1 t_2.2.2.2.1 t_2.2.2.2.2.1 xtape 11) = true then
        zlet (rf_next rz t_2.2.2.2.1 t_2.2.2.2.2.2.1 xtape) (fun t_20 =>
        zlet (rf_close rz t_20.1 t_20.2.1 t_20.2.2.1 t_20.2.2.2 xtape t_2.2.2.2.2.2.2.1 t_2.2.2.2.2.2.2.2) (fun t_21 => xTl rz r_picture xtape R thouses talways tnever nr nc tbeside tleast tmost trnames cnames tborn tstays t_2 t_21))
      else
        zlet (rf_close rz t_2.2.2.1 t_2.2.2.2.1 t_2.2.2.2.2.1 t_2.2.2.2.2.2.1 xtape t_2.2.2.2.2.2.2.1 t_2.2.2.2.2.2.2.2) (fun t_4 => xTl rz r_picture xtape R thouses talways tnever nr nc tbeside tleast tmost trnames cnames tborn tstays t_2 t_4))
    else
      (false, t_2.2.2.1, t_2.2.2.2.1, t_2.2.2.2.2.1, t_2.2.2.2.2.2.1, r_picture, t_2.2.2.2.2.2.2.1, t_2.2.2.2.2.2.2.2, Wd, R, thouses, talways, tnever, nr, nc, tring, tbeside, tleast, tmost, trnames, cnames, tborn, tstays)))
  else
    (false, t_1.2.1, t_1.2.2.1, t_1.2.2.2.1, t_1.2.2.2.2.1, r_picture, t_1.2.2.2.2.2.1, t_1.2.2.2.2.2.2, Wd, R, thouses, talways, tnever, nr, nc, tring, tbeside, tleast, tmost, trnames, cnames, tborn, tstays))) := rfl
def mTl (m_names : Nat → Int64) (t_1 : Bool × Int32 × Nat × Int32 × Nat × Nat × Int32 × Int32 × Int32 × Int32 × (Nat → Int32)) (t_5 : Bool × Int32 × Nat × Nat × Int32 × Int32 × Int32 × (Nat → Int32)) : Int32 × Int32 × Int32 × Nat × Int32 × Nat × Nat × Int32 × Int32 × Int32 × Int32 × Int32 × (Nat → Int32) × (Nat → Int64) × (Nat → Int32) :=
    (if t_5.1 = true then
      (if ((t_5.2.2.2.2.2.2.2 1641).toNatClampNeg) = 0 then
        zlet (mf_fails t_5.2.1 t_5.2.2.1 t_5.2.2.2.2.2.1 t_5.2.2.2.2.2.2.1 2) (fun t_29 =>
        zlet (mf_town_L72 t_1 t_5 t_29 (t_29.1, t_5.2.1, t_5.2.2.1, t_5.2.2.2.1, t_5.2.2.2.2.1, t_29.2.1, t_29.2.2, t_5.2.2.2.2.2.2.2, m_names)) (fun t_30 =>
        (if t_30.2.2.2.2.2.2.1 = 0 then
          zlet (mf_town_L100  t_30.2.2.2.2.2.2.2.1) (fun s_36 =>
          zlet (mf_town_L131  t_30.2.2.2.2.2.2.2.2) (fun s_37 =>
          zlet (mf_taken t_30.2.2.2.2.2.2.1 (nI (zpc (s_36 2)))) (fun t_38 =>
          (t_38.1, t_38.2.1, t_1.2.1, t_1.2.2.1, t_30.2.1, t_30.2.2.1, t_30.2.2.2.1, t_30.2.2.2.2.1, t_38.2.2, t_30.2.2.2.2.2.1, t_30.2.2.2.2.2.2.1, t_1.2.2.2.2.2.2.2.2.2.1, s_36, s_37, t_1.2.2.2.2.2.2.2.2.2.2))))
        else
          zlet (mf_taken t_30.2.2.2.2.2.2.1 (nI (zpc (t_30.2.2.2.2.2.2.2.1 2)))) (fun t_35 =>
          (t_35.1, t_35.2.1, t_1.2.1, t_1.2.2.1, t_30.2.1, t_30.2.2.1, t_30.2.2.2.1, t_30.2.2.2.2.1, t_35.2.2, t_30.2.2.2.2.2.1, t_30.2.2.2.2.2.2.1, t_1.2.2.2.2.2.2.2.2.2.1, t_30.2.2.2.2.2.2.2.1, t_30.2.2.2.2.2.2.2.2, t_1.2.2.2.2.2.2.2.2.2.2)))))
      else
        zlet (mf_town_L72b t_1 t_5 (t_5.1, t_5.2.1, t_5.2.2.1, t_5.2.2.2.1, t_5.2.2.2.2.1, t_5.2.2.2.2.2.1, t_5.2.2.2.2.2.2.1, t_5.2.2.2.2.2.2.2, m_names)) (fun t_20 =>
        (if t_20.2.2.2.2.2.2.1 = 0 then
          zlet (mf_town_L100b  t_20.2.2.2.2.2.2.2.1) (fun s_26 =>
          zlet (mf_town_L131b  t_20.2.2.2.2.2.2.2.2) (fun s_27 =>
          zlet (mf_taken t_20.2.2.2.2.2.2.1 (nI (zpc (s_26 2)))) (fun t_28 =>
          (t_28.1, t_28.2.1, t_1.2.1, t_1.2.2.1, t_20.2.1, t_20.2.2.1, t_20.2.2.2.1, t_20.2.2.2.2.1, t_28.2.2, t_20.2.2.2.2.2.1, t_20.2.2.2.2.2.2.1, t_1.2.2.2.2.2.2.2.2.2.1, s_26, s_27, t_1.2.2.2.2.2.2.2.2.2.2))))
        else
          zlet (mf_taken t_20.2.2.2.2.2.2.1 (nI (zpc (t_20.2.2.2.2.2.2.2.1 2)))) (fun t_25 =>
          (t_25.1, t_25.2.1, t_1.2.1, t_1.2.2.1, t_20.2.1, t_20.2.2.1, t_20.2.2.2.1, t_20.2.2.2.2.1, t_25.2.2, t_20.2.2.2.2.2.1, t_20.2.2.2.2.2.2.1, t_1.2.2.2.2.2.2.2.2.2.1, t_20.2.2.2.2.2.2.2.1, t_20.2.2.2.2.2.2.2.2, t_1.2.2.2.2.2.2.2.2.2.2)))))
    else
      zlet (mf_town_L72bb t_1 t_5 (t_5.1, t_5.2.1, t_5.2.2.1, t_5.2.2.2.1, t_5.2.2.2.2.1, t_5.2.2.2.2.2.1, t_5.2.2.2.2.2.2.1, t_5.2.2.2.2.2.2.2, m_names)) (fun t_10 =>
      (if t_10.2.2.2.2.2.2.1 = 0 then
        zlet (mf_town_L100bb  t_10.2.2.2.2.2.2.2.1) (fun s_16 =>
        zlet (mf_town_L131bb  t_10.2.2.2.2.2.2.2.2) (fun s_17 =>
        zlet (mf_taken t_10.2.2.2.2.2.2.1 (nI (zpc (s_16 2)))) (fun t_18 =>
        (t_18.1, t_18.2.1, t_1.2.1, t_1.2.2.1, t_10.2.1, t_10.2.2.1, t_10.2.2.2.1, t_10.2.2.2.2.1, t_18.2.2, t_10.2.2.2.2.2.1, t_10.2.2.2.2.2.2.1, t_1.2.2.2.2.2.2.2.2.2.1, s_16, s_17, t_1.2.2.2.2.2.2.2.2.2.2))))
      else
        zlet (mf_taken t_10.2.2.2.2.2.2.1 (nI (zpc (t_10.2.2.2.2.2.2.2.1 2)))) (fun t_15 =>
        (t_15.1, t_15.2.1, t_1.2.1, t_1.2.2.1, t_10.2.1, t_10.2.2.1, t_10.2.2.2.1, t_10.2.2.2.2.1, t_15.2.2, t_10.2.2.2.2.2.1, t_10.2.2.2.2.2.2.1, t_1.2.2.2.2.2.2.2.2.2.1, t_10.2.2.2.2.2.2.2.1, t_10.2.2.2.2.2.2.2.2, t_1.2.2.2.2.2.2.2.2.2.2)))))
set_option maxRecDepth 100000 in
theorem mf_town_tl (m_taped : Int32) (zs : Nat) (m_token : Int32) (fr : Nat) (en : Nat) (m_value : Int32) (m_faultKind : Int32) (m_faultPlace : Int32) (m_faults : Int32) (m_seen : Int32) (m_at : Nat → Int32) (m_names : Nat → Int64) (m_tape : Nat → Int32) (m_text : Nat → Int32) (nn : Int32) : mf_town m_taped zs m_token fr en m_value m_faultKind m_faultPlace m_faults m_seen m_at m_names m_tape m_text nn =
  zlet (mf_begins m_taped zs m_token fr en m_value m_faultPlace m_faults m_seen m_tape m_text nn 900) (fun t_1 =>
  (if t_1.1 = true then
    zlet (mf_plain m_at 1640) (fun t_3 =>
    zlet (mf_first t_1.2.2.1 t_1.2.2.2.1 t_1.2.2.2.2.1 t_1.2.2.2.2.2.1 t_1.2.2.2.2.2.2.1 t_1.2.2.2.2.2.2.2.1 t_1.2.2.2.2.2.2.2.2.1 t_3 t_1.2.2.2.2.2.2.2.2.2.2) (fun t_4 =>
    zlet (mf_town_L29 t_1 t_4 (t_4.1, t_4.2.1, t_4.2.2.1, t_4.2.2.2.1, t_4.2.2.2.2.1, t_4.2.2.2.2.2.1, t_4.2.2.2.2.2.2.1, t_4.2.2.2.2.2.2.2)) (fun t_5 => mTl m_names t_1 t_5)))
  else
    ((-1), 1, t_1.2.1, t_1.2.2.1, t_1.2.2.2.1, t_1.2.2.2.2.1, t_1.2.2.2.2.2.1, t_1.2.2.2.2.2.2.1, m_faultKind, t_1.2.2.2.2.2.2.2.1, t_1.2.2.2.2.2.2.2.2.1, t_1.2.2.2.2.2.2.2.2.2.1, m_at, m_names, t_1.2.2.2.2.2.2.2.2.2.2))) := rfl
