/-! pc: how many bits are set -/
set_option maxRecDepth 100000
def zpcF : Nat → Nat → Nat
  | 0, _ => 0
  | n + 1, m => m % 2 + zpcF n (m / 2)
/-- not to be unfolded -/
def zop (n : Nat) (x : Int32) : Nat := if h : n = 0 then zpcF 32 x.toBitVec.toNat else zop (n - 1) x
termination_by n
def zpc (x : Int32) : Nat := zop 0 x
theorem zpc_u (x : Int32) : zpc x = zpcF 32 x.toBitVec.toNat := by
  unfold zpc
  rw [zop, dif_pos rfl]
theorem zpcF_0 : ∀ n, zpcF n 0 = 0
  | 0 => rfl
  | n + 1 => by show 0 % 2 + zpcF n (0 / 2) = 0; rw [show 0 / 2 = 0 from rfl, zpcF_0 n]
theorem zpcF_le : ∀ n m, zpcF n m ≤ n
  | 0, _ => Nat.le_refl _
  | n + 1, m => by
    have h := zpcF_le n (m / 2)
    show m % 2 + zpcF n (m / 2) ≤ n + 1
    omega
theorem zpc_le (x : Int32) : zpc x ≤ 32 := by rw [zpc_u]; exact zpcF_le 32 _
theorem z_and_e (a b : Nat) : (2 * a) &&& (2 * b) = 2 * (a &&& b) := by
  apply Nat.eq_of_testBit_eq
  intro i
  cases i with
  | zero => simp [Nat.testBit_and]
  | succ i =>
    rw [Nat.testBit_and]
    simp [Nat.testBit_succ]
theorem z_and_o (a b : Nat) : (2 * a + 1) &&& (2 * b) = 2 * (a &&& b) := by
  apply Nat.eq_of_testBit_eq
  intro i
  cases i with
  | zero => simp [Nat.testBit_and]
  | succ i =>
    have h1 : (2 * a + 1) / 2 = a := by omega
    rw [Nat.testBit_and]
    simp [Nat.testBit_succ, h1]
theorem z_and_eo (a b : Nat) : (2 * a) &&& (2 * b + 1) = 2 * (a &&& b) := by rw [Nat.and_comm, z_and_o, Nat.and_comm]
theorem zpcF_clear : ∀ n m, m < 2 ^ n → 0 < m → zpcF n (m &&& (m - 1)) + 1 = zpcF n m
  | 0, m, h, h0 => by omega
  | n + 1, m, h, h0 => by
    rcases Nat.mod_two_eq_zero_or_one m with e | e
    · have ha : m = 2 * (m / 2) := by omega
      have h2 : 0 < m / 2 := by omega
      have hb : m - 1 = 2 * (m / 2 - 1) + 1 := by omega
      have ih := zpcF_clear n (m / 2) (by rw [Nat.pow_succ] at h; omega) h2
      have hc : m &&& (m - 1) = 2 * (m / 2 &&& (m / 2 - 1)) := by
        rw [hb]
        conv => lhs; lhs; rw [ha]
        exact z_and_eo _ _
      rw [hc]
      show (2 * _) % 2 + zpcF n (2 * _ / 2) + 1 = m % 2 + zpcF n (m / 2)
      rw [Nat.mul_mod_right, Nat.mul_div_cancel_left _ (by decide), e]
      omega
    · have ha : m = 2 * (m / 2) + 1 := by omega
      have hb : m - 1 = 2 * (m / 2) := by omega
      have hc : m &&& (m - 1) = 2 * (m / 2) := by
        rw [hb]
        conv => lhs; lhs; rw [ha]
        rw [z_and_o, Nat.and_self]
      rw [hc]
      show (2 * _) % 2 + zpcF n (2 * _ / 2) + 1 = m % 2 + zpcF n (m / 2)
      rw [Nat.mul_mod_right, Nat.mul_div_cancel_left _ (by decide), e]
      omega
theorem z_bv0 {x : Int32} (h : ¬ x = 0) : 0 < x.toBitVec.toNat := by
  rcases Nat.eq_zero_or_pos x.toBitVec.toNat with q | q
  · exact absurd (Int32.toBitVec_inj.mp (BitVec.eq_of_toNat_eq (by rw [q]; rfl))) h
  · exact q
theorem zpc_clear {x : Int32} (h : ¬ x = 0) : zpc (x &&& (x - 1)) + 1 = zpc x := by
  have h0 := z_bv0 h
  have h1 : (x &&& (x - 1)).toBitVec.toNat = x.toBitVec.toNat &&& (x.toBitVec.toNat - 1) := by
    have hlt := x.toBitVec.isLt
    have e1 : (1 : Int32).toBitVec.toNat = 1 := rfl
    rw [Int32.toBitVec_and, BitVec.toNat_and, Int32.toBitVec_sub, BitVec.toNat_sub, e1]
    congr 1
    omega
  rw [zpc_u, zpc_u, h1]
  exact zpcF_clear 32 _ x.toBitVec.isLt h0
theorem zpc_lt {x : Int32} {n : Nat} (h : ¬ x = 0) (hm : zpc x < n + 1) : zpc (x &&& (x - 1)) < n := by
  have := zpc_clear h
  omega
theorem zpc_pos {x : Int32} (h : ¬ x = 0) : 0 < zpc x := by have := zpc_clear h; omega
theorem zpc_0 : zpc 0 = 0 := by rw [zpc_u]; decide +kernel
/-! bitCount by bytes -/
theorem z_and256 (a b p q : Nat) (ha : a < 256) (hb : b < 256) : (a + 256 * p) &&& (b + 256 * q) = (a &&& b) + 256 * (p &&& q) := by
  have e1 : a + 256 * p = 2 ^ 8 * p + a := by omega
  have e2 : b + 256 * q = 2 ^ 8 * q + b := by omega
  have e3 : (a &&& b) + 256 * (p &&& q) = 2 ^ 8 * (p &&& q) + (a &&& b) := by omega
  have hab : (a &&& b) < 2 ^ 8 := Nat.and_lt_two_pow _ hb
  rw [e1, e2, e3]
  apply Nat.eq_of_testBit_eq
  intro i
  rw [Nat.testBit_and, Nat.testBit_two_pow_mul_add _ ha, Nat.testBit_two_pow_mul_add _ hb, Nat.testBit_two_pow_mul_add _ hab]
  split
  · rw [Nat.testBit_and]
  · rw [Nat.testBit_and]
def zbA (m x : Nat) : Nat := x - (x / 2 &&& m)
def zbB (m x : Nat) : Nat := (x &&& m) + (x / 4 &&& m)
def zbC (m x : Nat) : Nat := (x + x / 16) &&& m
theorem zA_b : ∀ b, b < 256 → ∀ e, e < 2 → (b / 2 + 128 * e) &&& 85 = b / 2 &&& 85 ∧ (b / 2 &&& 85) ≤ b := by decide +kernel
theorem zB_b : ∀ b, b < 256 → ∀ e, e < 4 → (b / 4 + 64 * e) &&& 51 = b / 4 &&& 51 := by decide +kernel
theorem zC_b : ∀ b, b < 136 → ∀ e, e < 16 → (b + (b / 16 + 16 * e)) % 256 &&& 15 = (b + b / 16) &&& 15 := by decide +kernel
theorem zA_s (m b y : Nat) (hb : b < 256) : zbA (85 + 256 * m) (b + 256 * y) = (b - (b / 2 &&& 85)) + 256 * zbA m y := by
  have e : (b + 256 * y) / 2 = (b / 2 + 128 * (y % 2)) + 256 * (y / 2) := by omega
  have h := zA_b b hb (y % 2) (Nat.mod_lt _ (by decide))
  have hy : (y / 2 &&& m) ≤ y := Nat.le_trans Nat.and_le_left (by omega)
  unfold zbA
  rw [e, z_and256 _ _ _ _ (by omega) (by decide), h.1]
  have := h.2
  omega
theorem zB_s (m b y : Nat) (hb : b < 256) : zbB (51 + 256 * m) (b + 256 * y) = ((b &&& 51) + (b / 4 &&& 51)) + 256 * zbB m y := by
  have e : (b + 256 * y) / 4 = (b / 4 + 64 * (y % 4)) + 256 * (y / 4) := by omega
  have h := zB_b b hb (y % 4) (Nat.mod_lt _ (by decide))
  unfold zbB
  rw [e, z_and256 _ _ _ _ hb (by decide), z_and256 _ _ _ _ (by omega) (by decide), h]
  omega
def zfA (b : Nat) : Nat := b - (b / 2 &&& 85)
def zfB (b : Nat) : Nat := (zfA b &&& 51) + (zfA b / 4 &&& 51)
theorem zfB_ok : ∀ b, b < 256 → zfA b < 256 ∧ zfB b ≤ 68 ∧ zfB b % 16 ≤ 4 ∧ ((zfB b + zfB b / 16) &&& 15) = zpcF 8 b := by decide +kernel
theorem zC_c : ∀ c, c < 69 → ∀ e, e < 5 → (c + c / 16 + 16 * e) &&& 15 = (c + c / 16) &&& 15 := by decide +kernel
theorem z63 : ∀ s, s < 33 → s &&& 63 = s := by decide +kernel
theorem zpcF_mod : ∀ n m, zpcF n (m % 2 ^ n) = zpcF n m
  | 0, _ => rfl
  | n + 1, m => by
    show m % 2 ^ (n + 1) % 2 + zpcF n (m % 2 ^ (n + 1) / 2) = m % 2 + zpcF n (m / 2)
    have e1 : m % 2 ^ (n + 1) % 2 = m % 2 := Nat.mod_mod_of_dvd _ ⟨2 ^ n, by rw [Nat.pow_succ, Nat.mul_comm]⟩
    have e2 : m % 2 ^ (n + 1) / 2 = m / 2 % 2 ^ n := by rw [Nat.pow_succ, Nat.mul_comm, Nat.mod_mul_right_div_self]
    rw [e1, e2, zpcF_mod n]
theorem zpcF_add : ∀ a b m, zpcF (a + b) m = zpcF a m + zpcF b (m / 2 ^ a)
  | 0, b, m => by rw [Nat.zero_add, Nat.pow_zero, Nat.div_one]; show _ = 0 + _; omega
  | a + 1, b, m => by
    rw [show a + 1 + b = (a + b) + 1 by omega]
    show m % 2 + zpcF (a + b) (m / 2) = m % 2 + zpcF a (m / 2) + zpcF b (m / 2 ^ (a + 1))
    rw [zpcF_add a b, Nat.div_div_eq_div_mul, Nat.pow_succ, Nat.mul_comm 2]
    omega
/-- the count, on Nat: the four steps of the JDK -/
theorem zbc_nat (x : Nat) (hx : x < 2 ^ 32) :
    let v1 := zbB 858993459 (zbA 1431655765 x)
    let w := (v1 + v1 / 16) &&& 252645135
    let v2 := w + w / 256
    v1 < 2 ^ 31 ∧ w < 2 ^ 30 ∧ v2 < 2 ^ 31 ∧ ((v2 + v2 / 65536) &&& 63) = zpcF 32 x := by
  intro v1 w v2
  obtain ⟨b0, y0, e0, h0⟩ : ∃ b y, x = b + 256 * y ∧ b < 256 := ⟨x % 256, x / 256, by omega, by omega⟩
  obtain ⟨b1, y1, e1, h1⟩ : ∃ b y, y0 = b + 256 * y ∧ b < 256 := ⟨y0 % 256, y0 / 256, by omega, by omega⟩
  obtain ⟨b2, b3, e2, h2⟩ : ∃ b y, y1 = b + 256 * y ∧ b < 256 := ⟨y1 % 256, y1 / 256, by omega, by omega⟩
  have h3 : b3 < 256 := by omega
  obtain ⟨a0, c0, d0, p0⟩ := zfB_ok b0 h0
  obtain ⟨a1, c1, d1, p1⟩ := zfB_ok b1 h1
  obtain ⟨a2, c2, d2, p2⟩ := zfB_ok b2 h2
  obtain ⟨a3, c3, d3, p3⟩ := zfB_ok b3 h3
  have eA : zbA 1431655765 x = zfA b0 + 256 * (zfA b1 + 256 * (zfA b2 + 256 * zfA b3)) := by
    have z3 : zbA 85 b3 = zfA b3 := rfl
    rw [e0, e1, e2, show 1431655765 = 85 + 256 * (85 + 256 * (85 + 256 * 85)) from rfl, zA_s _ _ _ h0, zA_s _ _ _ h1, zA_s _ _ _ h2, z3]
    rfl
  have eB : v1 = zfB b0 + 256 * (zfB b1 + 256 * (zfB b2 + 256 * zfB b3)) := by
    have z3 : zbB 51 (zfA b3) = zfB b3 := rfl
    show zbB 858993459 (zbA 1431655765 x) = _
    rw [eA, show 858993459 = 51 + 256 * (51 + 256 * (51 + 256 * 51)) from rfl, zB_s _ _ _ a0, zB_s _ _ _ a1, zB_s _ _ _ a2, z3]
    rfl
  have q0 := zC_c (zfB b0) (by omega) (zfB b1 % 16) (by omega)
  have q1 := zC_c (zfB b1) (by omega) (zfB b2 % 16) (by omega)
  have q2 := zC_c (zfB b2) (by omega) (zfB b3 % 16) (by omega)
  rw [p0] at q0
  rw [p1] at q1
  rw [p2] at q2
  have eS : v1 + v1 / 16 = (zfB b0 + zfB b0 / 16 + 16 * (zfB b1 % 16)) + 256 * ((zfB b1 + zfB b1 / 16 + 16 * (zfB b2 % 16)) + 256 * ((zfB b2 + zfB b2 / 16 + 16 * (zfB b3 % 16)) + 256 * (zfB b3 + zfB b3 / 16))) := by
    rw [eB]; omega
  have eW : w = zpcF 8 b0 + 256 * (zpcF 8 b1 + 256 * (zpcF 8 b2 + 256 * zpcF 8 b3)) := by
    show (v1 + v1 / 16) &&& 252645135 = _
    rw [eS, show 252645135 = 15 + 256 * (15 + 256 * (15 + 256 * 15)) from rfl, z_and256 _ _ _ _ (by omega) (by decide), z_and256 _ _ _ _ (by omega) (by decide), z_and256 _ _ _ _ (by omega) (by decide), q0, q1, q2, p3]
  have n0 := zpcF_le 8 b0
  have n1 := zpcF_le 8 b1
  have n2 := zpcF_le 8 b2
  have n3 := zpcF_le 8 b3
  have eV : v2 = (zpcF 8 b0 + zpcF 8 b1) + 256 * ((zpcF 8 b1 + zpcF 8 b2) + 256 * ((zpcF 8 b2 + zpcF 8 b3) + 256 * zpcF 8 b3)) := by
    show w + w / 256 = _
    rw [eW]; omega
  have eR : v2 + v2 / 65536 = (zpcF 8 b0 + zpcF 8 b1 + zpcF 8 b2 + zpcF 8 b3) + 256 * ((zpcF 8 b1 + zpcF 8 b2 + zpcF 8 b3) + 256 * ((zpcF 8 b2 + zpcF 8 b3) + 256 * zpcF 8 b3)) := by
    rw [eV]; omega
  have eC : zpcF 32 x = zpcF 8 b0 + zpcF 8 b1 + zpcF 8 b2 + zpcF 8 b3 := by
    have f0 : x / 2 ^ 8 = y0 := by omega
    have f1 : y0 / 2 ^ 8 = y1 := by omega
    have f2 : y1 / 2 ^ 8 = b3 := by omega
    have g0 : x % 2 ^ 8 = b0 := by omega
    have g1 : y0 % 2 ^ 8 = b1 := by omega
    have g2 : y1 % 2 ^ 8 = b2 := by omega
    rw [show 32 = 8 + 24 from rfl, zpcF_add, ← zpcF_mod 8 x, g0, f0, show 24 = 8 + 16 from rfl, zpcF_add, ← zpcF_mod 8 y0, g1, f1, show 16 = 8 + 8 from rfl, zpcF_add, ← zpcF_mod 8 y1, g2, f2]
    omega
  refine ⟨by rw [eB]; omega, by rw [eW]; omega, by rw [eV]; omega, ?_⟩
  rw [eR, show (63 : Nat) = 63 + 256 * 0 from rfl, z_and256 _ _ _ _ (by omega) (by decide), Nat.and_zero, Nat.mul_zero, Nat.add_zero, z63 _ (by omega), eC]
theorem zn_and (a b : Nat) : nI a &&& nI b = nI (a &&& b) := by
  apply Int32.toBitVec_inj.mp
  rw [Int32.toBitVec_and]
  show BitVec.ofNat 32 a &&& BitVec.ofNat 32 b = BitVec.ofNat 32 (a &&& b)
  apply BitVec.eq_of_toNat_eq
  rw [BitVec.toNat_and, BitVec.toNat_ofNat, BitVec.toNat_ofNat, BitVec.toNat_ofNat, Nat.and_mod_two_pow]
theorem zn_of (i : Int32) : ∃ x, x < 2 ^ 32 ∧ i = nI x := ⟨i.toBitVec.toNat, i.toBitVec.isLt, Int32.toBitVec_inj.mp (by show _ = BitVec.ofNat 32 _; rw [BitVec.ofNat_toNat, BitVec.setWidth_eq])⟩
theorem zn_tn {x : Nat} (h : x < 2 ^ 32) : (nI x).toBitVec.toNat = x := by
  show (BitVec.ofNat 32 x).toNat = x
  rw [BitVec.toNat_ofNat, Nat.mod_eq_of_lt h]
theorem zpcF_and : ∀ n a b, zpcF n (a &&& b) ≤ zpcF n b
  | 0, _, _ => Nat.le_refl _
  | n + 1, a, b => by
    have h := zpcF_and n (a / 2) (b / 2)
    have e1 : (a &&& b) / 2 = a / 2 &&& b / 2 := by
      have := Nat.and_div_two_pow (n := 1) (a := a) (b := b)
      simpa using this
    have e2 : (a &&& b) % 2 ≤ b % 2 := by
      have := Nat.and_mod_two_pow (n := 1) (a := a) (b := b)
      rw [Nat.pow_one] at this
      rw [this]
      exact Nat.and_le_right
    show (a &&& b) % 2 + zpcF n ((a &&& b) / 2) ≤ b % 2 + zpcF n (b / 2)
    rw [e1]
    omega
theorem zpc_and_r (x y : Int32) : zpc (x &&& y) ≤ zpc y := by
  rw [zpc_u, zpc_u, Int32.toBitVec_and, BitVec.toNat_and]
  exact zpcF_and 32 _ _
theorem zpcF_grow : ∀ n a b, a < 2 ^ n → b < 2 ^ n → a ||| b = b → zpcF n a ≤ zpcF n b ∧ (zpcF n a = zpcF n b → a = b)
  | 0, a, b, ha, hb, _ => by
    have h1 : a = 0 := by omega
    have h2 : b = 0 := by omega
    subst h1; subst h2
    exact ⟨Nat.le_refl _, fun _ => rfl⟩
  | n + 1, a, b, ha, hb, h => by
    have e1 : a / 2 ||| b / 2 = b / 2 := by
      have := Nat.or_div_two (a := a) (b := b)
      rw [← this, h]
    have e2 : a % 2 ≤ b % 2 := by
      have q := Nat.or_mod_two_pow (a := a) (b := b) (n := 1)
      rw [Nat.pow_one, h] at q
      rw [q]
      exact Nat.left_le_or
    obtain ⟨i1, i2⟩ := zpcF_grow n (a / 2) (b / 2) (by rw [Nat.pow_succ] at ha; omega) (by rw [Nat.pow_succ] at hb; omega) e1
    show a % 2 + zpcF n (a / 2) ≤ b % 2 + zpcF n (b / 2) ∧ (a % 2 + zpcF n (a / 2) = b % 2 + zpcF n (b / 2) → a = b)
    refine ⟨by omega, fun q => ?_⟩
    have q1 : zpcF n (a / 2) = zpcF n (b / 2) := by omega
    have := i2 q1
    omega
theorem zpc_grow {x y : Int32} (h : x ||| y = y) (hne : ¬ x = y) : zpc x < zpc y := by
  have h1 : x.toBitVec.toNat ||| y.toBitVec.toNat = y.toBitVec.toNat := by
    have := congrArg (fun z : Int32 => z.toBitVec.toNat) h
    simpa [Int32.toBitVec_or, BitVec.toNat_or] using this
  obtain ⟨a, b⟩ := zpcF_grow 32 _ _ x.toBitVec.isLt y.toBitVec.isLt h1
  rw [zpc_u, zpc_u]
  refine Nat.lt_of_le_of_ne a fun q => hne ?_
  exact Int32.toBitVec_inj.mp (BitVec.eq_of_toNat_eq (b q))
theorem heapOf_mu {h o h' : Int32} {n : Nat} (hmu : 32 - zpc h + (if h = o then 0 else 1) < n + 1) (hc : ¬ h = o) (hs : h ||| h' = h') : 32 - zpc h' + (if h' = h then 0 else 1) < n := by
  rw [if_neg hc] at hmu
  have l1 := zpc_le h
  have l2 := zpc_le h'
  by_cases e : h' = h
  · subst e; rw [if_pos rfl]; omega
  · rw [if_neg e]
    have := zpc_grow hs (fun q => e q.symm)
    omega
