/-! ===== counting bits (plain, over Nat), and the ints that hold them ===== -/
theorem and_n (a b : Nat) : iI (a : Int) &&& iI (b : Int) = iI ((a &&& b : Nat) : Int) := by
  apply Int32.toBitVec_inj.mp
  rw [Int32.toBitVec_and, iI_bv, iI_bv, iI_bv]
  apply BitVec.eq_of_toNat_eq
  rw [BitVec.toNat_and, BitVec.toNat_ofNat, BitVec.toNat_ofNat, BitVec.toNat_ofNat, Nat.and_mod_two_pow]
theorem ush_n {a k : Nat} (ha : a < 2 ^ 31) (hk : k < 32) : ((iI (a : Int)).toUInt32 >>> ((iI (k : Int)).toUInt32 &&& Int32.toUInt32 31)).toInt32 = iI ((a / 2 ^ k : Nat) : Int) := by
  have h1 : (iI (k : Int)).toUInt32 &&& Int32.toUInt32 31 = UInt32.ofNat k := by
    have : ∀ k, k < 32 → (iI ((k : Nat) : Int)).toUInt32 &&& Int32.toUInt32 31 = UInt32.ofNat k := by decide +kernel
    exact this k hk
  rw [h1]
  have h2 : (iI (a : Int)).toUInt32 = UInt32.ofNat a := by
    apply UInt32.toBitVec_inj.mp
    rw [show (iI (a : Int)).toUInt32.toBitVec = (iI (a : Int)).toBitVec from rfl, iI_bv]
    rfl
  rw [h2]
  apply Int32.toBitVec_inj.mp
  rw [iI_bv]
  show (UInt32.ofNat a >>> UInt32.ofNat k).toBitVec = _
  apply BitVec.eq_of_toNat_eq
  rw [show ((UInt32.ofNat a >>> UInt32.ofNat k).toBitVec).toNat = (UInt32.ofNat a >>> UInt32.ofNat k).toNat from rfl, UInt32.toNat_shiftRight, BitVec.toNat_ofNat, UInt32.toNat_ofNat', UInt32.toNat_ofNat', Nat.mod_eq_of_lt (show a < 2 ^ 32 by omega), Nat.mod_eq_of_lt (show k < 2 ^ 32 by omega), Nat.mod_eq_of_lt hk, Nat.shiftRight_eq_div_pow]
  have := Nat.div_le_self a (2 ^ k)
  rw [Nat.mod_eq_of_lt (by omega)]
/-- two parts of a mask -/
theorem and_sp {a m b n : Nat} (ha : a < 256) (hm : m < 256) : (a + 256 * b) &&& (m + 256 * n) = (a &&& m) + 256 * (b &&& n) := by
  have h : (a &&& m) < 2 ^ 8 := Nat.and_lt_two_pow a (by omega)
  apply Nat.eq_of_testBit_eq
  intro i
  rw [Nat.testBit_and, show a + 256 * b = 2 ^ 8 * b + a by omega, show m + 256 * n = 2 ^ 8 * n + m by omega, show (a &&& m) + 256 * (b &&& n) = 2 ^ 8 * (b &&& n) + (a &&& m) by omega, Nat.testBit_two_pow_mul_add _ (by omega), Nat.testBit_two_pow_mul_add _ (by omega), Nat.testBit_two_pow_mul_add _ h]
  split
  · rw [Nat.testBit_and]
  · rw [Nat.testBit_and]
def pA (b : Nat) : Nat := b - (b / 2 &&& 85)
def pB (b : Nat) : Nat := (b &&& 51) + (b / 4 &&& 51)
def pC (b : Nat) : Nat := (b + b / 16) &&& 15
theorem pA_ok : ∀ b, b < 256 → (b / 2 &&& 85) ≤ b ∧ pA b < 256 ∧ ∀ k, k < 2 → (b / 2 + 128 * k) &&& 85 = b / 2 &&& 85 := by decide +kernel
theorem pB_ok : ∀ b, b < 256 → pB (pA b) % 16 ≤ 4 ∧ pB (pA b) ≤ 68 := by decide +kernel
theorem pB_ok2 : ∀ b, b < 256 → ∀ k, k < 4 → (b / 4 + 64 * k) &&& 51 = b / 4 &&& 51 := by decide +kernel
theorem pC_ok : ∀ b, b < 69 → ∀ k, k < 5 → (b + b / 16 + 16 * k) &&& 15 = pC b := by decide +kernel
theorem pc_8 : ∀ b, b < 256 → pC (pB (pA b)) = b % 2 + b / 2 % 2 + b / 4 % 2 + b / 8 % 2 + b / 16 % 2 + b / 32 % 2 + b / 64 % 2 + b / 128 % 2 := by decide +kernel
/-- the three steps, byte by byte -/
theorem st_1 {x y z : Nat} (hx : x < 256) (hy : y < 256) (hz : z < 16) : x + 256 * (y + 256 * z) - ((x + 256 * (y + 256 * z)) / 2 &&& 1431655765) = pA x + 256 * (pA y + 256 * pA z) := by
  obtain ⟨a1, a2, a3⟩ := pA_ok x hx
  obtain ⟨b1, b2, b3⟩ := pA_ok y hy
  obtain ⟨c1, c2, c3⟩ := pA_ok z (by omega)
  have e1 : (x + 256 * (y + 256 * z)) / 2 = (x / 2 + 128 * ((y + 256 * z) % 2)) + 256 * ((y + 256 * z) / 2) := by omega
  have e2 : (y + 256 * z) / 2 = (y / 2 + 128 * (z % 2)) + 256 * (z / 2) := by omega
  have e3 : (x + 256 * (y + 256 * z)) / 2 &&& 1431655765 = (x / 2 &&& 85) + 256 * ((y / 2 &&& 85) + 256 * (z / 2 &&& 85)) := by
    rw [e1, show (1431655765 : Nat) = 85 + 256 * 5592405 from rfl, and_sp (by omega) (by omega), a3 _ (by omega), e2, show (5592405 : Nat) = 85 + 256 * 21845 from rfl, and_sp (by omega) (by omega), b3 _ (by omega)]
    have : z / 2 &&& 21845 = z / 2 &&& 85 := by
      have : ∀ z, z < 16 → z / 2 &&& 21845 = z / 2 &&& 85 := by decide +kernel
      exact this z hz
    rw [this]
  rw [e3]
  unfold pA
  omega
theorem st_2 {x y z : Nat} (hx : x < 256) (hy : y < 256) (hz : z < 16) : ((x + 256 * (y + 256 * z)) &&& 858993459) + ((x + 256 * (y + 256 * z)) / 4 &&& 858993459) = pB x + 256 * (pB y + 256 * pB z) := by
  have e1 : (x + 256 * (y + 256 * z)) / 4 = (x / 4 + 64 * ((y + 256 * z) % 4)) + 256 * ((y + 256 * z) / 4) := by omega
  have e2 : (y + 256 * z) / 4 = (y / 4 + 64 * (z % 4)) + 256 * (z / 4) := by omega
  have m1 : (858993459 : Nat) = 51 + 256 * 3355443 := rfl
  have m2 : (3355443 : Nat) = 51 + 256 * 13107 := rfl
  have z1 : ∀ z, z < 16 → z &&& 13107 = z &&& 51 := by decide +kernel
  have e3 : (x + 256 * (y + 256 * z)) / 4 &&& 858993459 = (x / 4 &&& 51) + 256 * ((y / 4 &&& 51) + 256 * (z / 4 &&& 51)) := by
    rw [e1, m1, and_sp (by omega) (by omega), pB_ok2 x hx _ (by omega), e2, m2, and_sp (by omega) (by omega), pB_ok2 y hy _ (by omega), z1 (z / 4) (by omega)]
  have e4 : (x + 256 * (y + 256 * z)) &&& 858993459 = (x &&& 51) + 256 * ((y &&& 51) + 256 * (z &&& 51)) := by
    rw [m1, and_sp hx (by omega), m2, and_sp hy (by omega), z1 z hz]
  rw [e3, e4]
  unfold pB
  omega
theorem st_3 {x y z : Nat} (hx : x ≤ 68) (hy : y ≤ 68) (hz : z ≤ 68) (hy4 : y % 16 ≤ 4) (hz4 : z % 16 ≤ 4) : (x + 256 * (y + 256 * z) + (x + 256 * (y + 256 * z)) / 16) &&& 252645135 = pC x + 256 * (pC y + 256 * pC z) := by
  have e1 : x + 256 * (y + 256 * z) + (x + 256 * (y + 256 * z)) / 16 = (x + x / 16 + 16 * (y % 16)) + 256 * ((y + y / 16 + 16 * (z % 16)) + 256 * (z + z / 16)) := by omega
  have z1 : ∀ z, z < 69 → (z + z / 16) &&& 3855 = pC z := by decide +kernel
  rw [e1, show (252645135 : Nat) = 15 + 256 * 986895 from rfl, and_sp (by omega) (by omega), pC_ok x (by omega) _ (by omega), show (986895 : Nat) = 15 + 256 * 3855 from rfl, and_sp (by omega) (by omega), pC_ok y (by omega) _ (by omega), z1 z (by omega)]
theorem pC_le : ∀ b, b < 256 → pC (pB (pA b)) ≤ 8 := by decide +kernel
/-- the bits of L, below 2 ^ 20 -/
def bct (L : Nat) : Nat → Nat
  | 0 => 0
  | n + 1 => bct L n + L / 2 ^ n % 2
theorem bct_lo (x Y n : Nat) (hn : n ≤ 8) (hx : x < 256) : bct (x + 256 * Y) n = bct x n := by
  induction n with
  | zero => rfl
  | succ n ih =>
    show bct (x + 256 * Y) n + _ = bct x n + _
    rw [ih (by omega)]
    congr 1
    obtain rfl | rfl | rfl | rfl | rfl | rfl | rfl | rfl : n = 0 ∨ n = 1 ∨ n = 2 ∨ n = 3 ∨ n = 4 ∨ n = 5 ∨ n = 6 ∨ n = 7 := by omega
    all_goals (simp only [Nat.reducePow]; omega)
theorem bct_hi (L m n : Nat) : bct L (m + n) = bct L m + bct (L / 2 ^ m) n := by
  induction n with
  | zero => rfl
  | succ n ih =>
    show bct L (m + n) + L / 2 ^ (m + n) % 2 = bct L m + (bct (L / 2 ^ m) n + L / 2 ^ m / 2 ^ n % 2)
    rw [ih, Nat.div_div_eq_div_mul, ← Nat.pow_add]
    omega
theorem bct_8 (b : Nat) : bct b 8 = b % 2 + b / 2 % 2 + b / 4 % 2 + b / 8 % 2 + b / 16 % 2 + b / 32 % 2 + b / 64 % 2 + b / 128 % 2 := by
  simp only [bct, Nat.reducePow, Nat.div_one, Nat.zero_add]
theorem bct_z : ∀ z, z < 16 → bct z 8 = bct z 4 := by decide +kernel
theorem bct_20 {x y z : Nat} (hx : x < 256) (hy : y < 256) (hz : z < 16) : bct (x + 256 * (y + 256 * z)) 20 = bct x 8 + bct y 8 + bct z 8 := by
  rw [show (20 : Nat) = 8 + 12 from rfl, bct_hi, bct_lo _ _ _ (by omega) hx, show (x + 256 * (y + 256 * z)) / 2 ^ 8 = y + 256 * z by omega, show (12 : Nat) = 8 + 4 from rfl, bct_hi, bct_lo _ _ _ (by omega) hy, show (y + 256 * z) / 2 ^ 8 = z by omega, bct_z z hz]
  omega
theorem su_3 {p q r : Nat} (hp : p ≤ 8) (hq : q ≤ 8) (hr : r ≤ 8) : ((p + 256 * (q + 256 * r)) + (p + 256 * (q + 256 * r)) / 256 + ((p + 256 * (q + 256 * r)) + (p + 256 * (q + 256 * r)) / 256) / 65536) % 64 = p + q + r := by
  have t1 : (p + 256 * (q + 256 * r)) / 256 = q + 256 * r := by omega
  have t2 : (p + 256 * (q + 256 * r) + (q + 256 * r)) / 65536 = r := by omega
  rw [t1, t2]
  omega
theorem pc_bt : ∀ b, b < 256 → pC (pB (pA b)) = bct b 8 := by
  intro b hb
  rw [pc_8 b hb, bct_8]
theorem bc_all {L : Nat} (hL : L < 2 ^ 20) : ∃ x1 x2 x3, L - (L / 2 &&& 1431655765) = x1 ∧ (x1 &&& 858993459) + (x1 / 4 &&& 858993459) = x2 ∧ (x2 + x2 / 16) &&& 252645135 = x3 ∧ x1 < 2 ^ 24 ∧ x2 < 2 ^ 24 ∧ x3 < 2 ^ 24 ∧ (L / 2 &&& 1431655765) ≤ L ∧ ((x3 + x3 / 256) + (x3 + x3 / 256) / 65536) % 64 = bct L 20 := by
  obtain ⟨x, y, z, hx, hy, hz, rfl⟩ : ∃ x y z, x < 256 ∧ y < 256 ∧ z < 16 ∧ L = x + 256 * (y + 256 * z) := ⟨L % 256, L / 256 % 256, L / 65536, by omega, by omega, by omega, by omega⟩
  have s1 := st_1 hx hy hz
  have a2 := (pA_ok x hx).2.1
  have b2 := (pA_ok y hy).2.1
  have za : pA z < 16 := by
    have : ∀ z, z < 16 → pA z < 16 := by decide +kernel
    exact this z hz
  have s2 := st_2 a2 b2 za
  obtain ⟨p1, p2⟩ := pB_ok x hx
  obtain ⟨q1, q2⟩ := pB_ok y hy
  obtain ⟨r1, r2⟩ := pB_ok z (by omega)
  have s3 := st_3 p2 q2 r2 q1 r1
  have l1 := pC_le x hx
  have l2 := pC_le y hy
  have l3 := pC_le z (by omega)
  refine ⟨_, _, _, s1, s2, s3, ?_, ?_, ?_, ?_, ?_⟩
  · clear s1 s2 s3 p1 p2 q1 q2 r1 r2 l1 l2 l3; omega
  · clear s1 s2 s3 p1 q1 r1 l1 l2 l3; omega
  · clear s1 s2 s3 p1 p2 q1 q2 r1 r2; omega
  · exact Nat.le_trans Nat.and_le_left (Nat.div_le_self _ _)
  · rw [su_3 l1 l2 l3, bct_20 hx hy hz, pc_bt x hx, pc_bt y hy, pc_bt z (by omega)]
