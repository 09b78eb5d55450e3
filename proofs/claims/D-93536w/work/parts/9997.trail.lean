/-! ===== Integer.bitCount, Integer.numberOfTrailingZeros ===== -/
theorem ush1 {a : Nat} (h : a < 2 ^ 31) : ((iI (a : Int)).toUInt32 >>> ((iI 1).toUInt32 &&& Int32.toUInt32 31)).toInt32 = iI ((a / 2 : Nat) : Int) := ush_n (k := 1) h (by decide)
theorem ush2 {a : Nat} (h : a < 2 ^ 31) : ((iI (a : Int)).toUInt32 >>> ((iI 2).toUInt32 &&& Int32.toUInt32 31)).toInt32 = iI ((a / 4 : Nat) : Int) := ush_n (k := 2) h (by decide)
theorem ush4 {a : Nat} (h : a < 2 ^ 31) : ((iI (a : Int)).toUInt32 >>> ((iI 4).toUInt32 &&& Int32.toUInt32 31)).toInt32 = iI ((a / 16 : Nat) : Int) := ush_n (k := 4) h (by decide)
theorem ush8 {a : Nat} (h : a < 2 ^ 31) : ((iI (a : Int)).toUInt32 >>> ((iI 8).toUInt32 &&& Int32.toUInt32 31)).toInt32 = iI ((a / 256 : Nat) : Int) := ush_n (k := 8) h (by decide)
theorem ush16 {a : Nat} (h : a < 2 ^ 31) : ((iI (a : Int)).toUInt32 >>> ((iI 16).toUInt32 &&& Int32.toUInt32 31)).toInt32 = iI ((a / 65536 : Nat) : Int) := ush_n (k := 16) h (by decide)
theorem x_bitCount {L : Nat} {h : zH} (hL : L < 2 ^ 20) : zMet yJ21_bitCount (ws_ yJ21_bitCount cJ21_bitCount 1 (some .int)) 1 [.int (iI L)] h (zRet (.int (iI (bct L 20))) h) 0 0 := by
  obtain ⟨x1, x2, x3, e1, e2, e3, b1, b2, b3, b4, e4⟩ := bc_all hL
  have m1 : ∀ a : Nat, iI (a : Int) &&& iI 1431655765 = iI ((a &&& 1431655765 : Nat) : Int) := fun a => and_n a 1431655765
  have m2 : ∀ a : Nat, iI (a : Int) &&& iI 858993459 = iI ((a &&& 858993459 : Nat) : Int) := fun a => and_n a 858993459
  have m3 : ∀ a : Nat, iI (a : Int) &&& iI 252645135 = iI ((a &&& 252645135 : Nat) : Int) := fun a => and_n a 252645135
  have m4 : ∀ a : Nat, iI (a : Int) &&& iI 63 = iI ((a % 64 : Nat) : Int) := fun a => by
    rw [show iI 63 = iI ((63 : Nat) : Int) from rfl, and_n, show (63 : Nat) = 2 ^ 6 - 1 from rfl, Nat.and_two_pow_sub_one_eq_mod]
  have f1 : (L : Int) - ((L / 2 &&& 1431655765 : Nat) : Int) = ((x1 : Nat) : Int) := by
    generalize L / 2 &&& 1431655765 = z at *
    omega
  have f2 : ((x1 &&& 858993459 : Nat) : Int) + ((x1 / 4 &&& 858993459 : Nat) : Int) = ((x2 : Nat) : Int) := by rw [← e2]; rfl
  have f3 : (x2 : Int) + ((x2 / 16 : Nat) : Int) = ((x2 + x2 / 16 : Nat) : Int) := rfl
  have f4 : (x3 : Int) + ((x3 / 256 : Nat) : Int) = ((x3 + x3 / 256 : Nat) : Int) := rfl
  have f5 : ((x3 + x3 / 256 : Nat) : Int) + (((x3 + x3 / 256) / 65536 : Nat) : Int) = ((x3 + x3 / 256 + (x3 + x3 / 256) / 65536 : Nat) : Int) := rfl
  refine zMet.of (by decide) (Nat.le_of_ble_eq_true rfl) fun X K => ?_
  refine z_iload_n K dJ21_bitCount_0 rfl rfl ?_
  refine z_iload_n K dJ21_bitCount_1 rfl rfl ?_
  refine j_iconst K dJ21_bitCount_2 ?_
  refine z_iushr K dJ21_bitCount_3 ?_
  rw [ush1 (by omega)]
  refine j_ldcw K 1431655765 q1074 (by decide +kernel) dJ21_bitCount_4 ?_
  refine z_iand K dJ21_bitCount_7 ?_
  rw [m1]
  refine j_isub K dJ21_bitCount_8 ?_
  rw [f1]
  refine z_istore_n K dJ21_bitCount_9 rfl (by decide) rfl ?_
  refine z_iload_n K dJ21_bitCount_10 rfl rfl ?_
  refine j_ldcw K 858993459 q1075 (by decide +kernel) dJ21_bitCount_11 ?_
  refine z_iand K dJ21_bitCount_14 ?_
  rw [m2]
  refine z_iload_n K dJ21_bitCount_15 rfl rfl ?_
  refine j_iconst K dJ21_bitCount_16 ?_
  refine z_iushr K dJ21_bitCount_17 ?_
  rw [ush2 (by omega)]
  refine j_ldcw K 858993459 q1075 (by decide +kernel) dJ21_bitCount_18 ?_
  refine z_iand K dJ21_bitCount_21 ?_
  rw [m2]
  refine j_iadd K dJ21_bitCount_22 ?_
  rw [f2]
  refine z_istore_n K dJ21_bitCount_23 rfl (by decide) rfl ?_
  refine z_iload_n K dJ21_bitCount_24 rfl rfl ?_
  refine z_iload_n K dJ21_bitCount_25 rfl rfl ?_
  refine j_iconst K dJ21_bitCount_26 ?_
  refine z_iushr K dJ21_bitCount_27 ?_
  rw [ush4 (by omega)]
  refine j_iadd K dJ21_bitCount_28 ?_
  rw [f3]
  refine j_ldcw K 252645135 q1076 (by decide +kernel) dJ21_bitCount_29 ?_
  refine z_iand K dJ21_bitCount_32 ?_
  rw [m3, e3]
  refine z_istore_n K dJ21_bitCount_33 rfl (by decide) rfl ?_
  refine z_iload_n K dJ21_bitCount_34 rfl rfl ?_
  refine z_iload_n K dJ21_bitCount_35 rfl rfl ?_
  refine j_bipush K dJ21_bitCount_36 (by decide +kernel) ?_
  refine z_iushr K dJ21_bitCount_38 ?_
  rw [ush8 (by omega)]
  refine j_iadd K dJ21_bitCount_39 ?_
  rw [f4]
  refine z_istore_n K dJ21_bitCount_40 rfl (by decide) rfl ?_
  refine z_iload_n K dJ21_bitCount_41 rfl rfl ?_
  refine z_iload_n K dJ21_bitCount_42 rfl rfl ?_
  refine j_bipush K dJ21_bitCount_43 (by decide +kernel) ?_
  refine z_iushr K dJ21_bitCount_45 ?_
  rw [ush16 (by omega)]
  refine j_iadd K dJ21_bitCount_46 ?_
  rw [f5]
  refine z_istore_n K dJ21_bitCount_47 rfl (by decide) rfl ?_
  refine z_iload_n K dJ21_bitCount_48 rfl rfl ?_
  refine j_bipush K dJ21_bitCount_49 (by decide +kernel) ?_
  refine z_iand K dJ21_bitCount_51 ?_
  rw [m4, e4]
  exact z_iret K (by omega) (by omega) (⟨rfl, rfl⟩) dJ21_bitCount_52
/-- the bits below the lowest -/
theorem low_bits {m k : Nat} (hL : 2 ^ k * (2 * m + 1) < 2 ^ 20) : (iI ((2 ^ k * (2 * m + 1) : Nat) : Int) ^^^ iI (-1)) &&& iI (((2 ^ k * (2 * m + 1) : Nat) : Int) - 1) = iI ((2 ^ k - 1 : Nat) : Int) := by
  have hp := Nat.two_pow_pos k
  have e : ((2 ^ k * (2 * m + 1) : Nat) : Int) - 1 = ((2 ^ k * (2 * m) + (2 ^ k - 1) : Nat) : Int) := by
    rw [Nat.mul_add, Nat.mul_one]
    generalize 2 ^ k * (2 * m) = z at *
    omega
  rw [e]
  apply Int32.toBitVec_inj.mp
  rw [Int32.toBitVec_and, Int32.toBitVec_xor, iI_bv, iI_bv, iI_bv, show (iI (-1)).toBitVec = BitVec.allOnes 32 by decide]
  apply BitVec.eq_of_getLsbD_eq
  intro i hi
  rw [BitVec.getLsbD_and, BitVec.getLsbD_xor, BitVec.getLsbD_ofNat, BitVec.getLsbD_ofNat, BitVec.getLsbD_ofNat, BitVec.getLsbD_allOnes, Nat.testBit_two_pow_mul_add _ (by omega), Nat.testBit_two_pow_mul, Nat.testBit_two_pow_sub_one]
  by_cases c : i < k
  · rw [if_pos c]
    simp [hi, c, Nat.not_le.mpr c]
  · rw [if_neg c]
    obtain ⟨j, rfl⟩ : ∃ j, i = k + j := ⟨i - k, by omega⟩
    rw [show k + j - k = j by omega]
    cases j with
    | zero => simp
    | succ j => 
      rw [Nat.testBit_succ, Nat.testBit_succ, show (2 * m + 1) / 2 = m by omega, show 2 * m / 2 = m by omega]
      simp [hi]
theorem pw_t : ∀ j, j ≤ 20 → (4 < 2 ^ j - 1 ↔ 3 ≤ j) ∧ (16 < 2 ^ j - 1 ↔ 5 ≤ j) ∧ (256 < 2 ^ j - 1 ↔ 9 ≤ j) ∧ (65536 < 2 ^ j - 1 ↔ 17 ≤ j) ∧ 2 ^ j - 1 < 2 ^ 21 ∧ (1 ≤ j → 1 ≤ 2 ^ j - 1) := by decide +kernel
theorem pw_s : ∀ j, j ≤ 20 → (2 ≤ j → (2 ^ j - 1) / 4 = 2 ^ (j - 2) - 1) ∧ (4 ≤ j → (2 ^ j - 1) / 16 = 2 ^ (j - 4) - 1) ∧ (8 ≤ j → (2 ^ j - 1) / 256 = 2 ^ (j - 8) - 1) ∧ (16 ≤ j → (2 ^ j - 1) / 65536 = 2 ^ (j - 16) - 1) := by decide +kernel
theorem x_trail {m k : Nat} {h : zH} (hL : 2 ^ k * (2 * m + 1) < 2 ^ 20) (hk : k < 20) : zMet yJ21_numberOfTrailingZeros (ws_ yJ21_numberOfTrailingZeros cJ21_numberOfTrailingZeros 2 (some .int)) 1 [.int (iI ((2 ^ k * (2 * m + 1) : Nat) : Int))] h (zRet (.int (iI k)) h) 0 0 := by
  refine zMet.of (by decide) (Nat.le_of_ble_eq_true rfl) fun X K => ?_
  have j74 : ∀ (j : Nat) (n : Int), 1 ≤ j → j ≤ 2 → n + j = k + 1 → ∀ env, zsub env [(0, .int (iI ((2 ^ j - 1 : Nat) : Int))), (1, .int (iI n))] → zW X (zRet (.int (iI k)) h) h 0 0 74 env [] := by
    intro j n h1 h2 h3 env he
    refine zW.cut he ?_
    have e : n + (((2 ^ j - 1) / 2 : Nat) : Int) = k := by
      obtain rfl | rfl : j = 1 ∨ j = 2 := by omega
      · omega
      · omega
    have hb := (pw_t j (by omega)).2.2.2.2.1
    refine z_iload_n K dJ21_numberOfTrailingZeros_74 rfl rfl ?_
    refine z_iload_n K dJ21_numberOfTrailingZeros_75 rfl rfl ?_
    refine j_iconst K dJ21_numberOfTrailingZeros_76 ?_
    refine z_iushr K dJ21_numberOfTrailingZeros_77 ?_
    rw [ush1 (by omega)]
    refine j_iadd K dJ21_numberOfTrailingZeros_78 ?_
    rw [e]
    exact z_iret K (by omega) (by omega) (⟨rfl, rfl⟩) dJ21_numberOfTrailingZeros_79
  have j62 : ∀ (j : Nat) (n : Int), 1 ≤ j → j ≤ 4 → n + j = k + 1 → ∀ env, zsub env [(0, .int (iI ((2 ^ j - 1 : Nat) : Int))), (1, .int (iI n))] → zW X (zRet (.int (iI k)) h) h 0 0 62 env [] := by
    intro j n h1 h2 h3 env he
    refine zW.cut he ?_
    obtain ⟨t1, t2, t3, t4, hb, -⟩ := pw_t j (by omega)
    have s1 := (pw_s j (by omega)).1
    refine z_iload_n K dJ21_numberOfTrailingZeros_62 rfl rfl ?_
    refine j_iconst K dJ21_numberOfTrailingZeros_63 ?_
    refine j_icmp_le (tgt := 74) K dJ21_numberOfTrailingZeros_64 rfl (by omega) (by omega) (fun c_64 => ?_) (fun c_64 => ?_)
    · have hj : j ≤ 2 := by omega
      exact j74 j n h1 hj h3 _ ⟨rfl, rfl, trivial⟩
    · have hj : 3 ≤ j := by omega
      refine j_iinc K dJ21_numberOfTrailingZeros_67 rfl (by decide) rfl ?_
      refine z_iload_n K dJ21_numberOfTrailingZeros_70 rfl rfl ?_
      refine j_iconst K dJ21_numberOfTrailingZeros_71 ?_
      refine z_iushr K dJ21_numberOfTrailingZeros_72 ?_
      rw [ush2 (by omega), s1 (by omega)]
      refine z_istore_n K dJ21_numberOfTrailingZeros_73 rfl (by decide) rfl ?_
      exact j74 (j - 2) (n + 2) (by omega) (by omega) (by omega) _ ⟨rfl, rfl, trivial⟩
  have j49 : ∀ (j : Nat) (n : Int), 1 ≤ j → j ≤ 8 → n + j = k + 1 → ∀ env, zsub env [(0, .int (iI ((2 ^ j - 1 : Nat) : Int))), (1, .int (iI n))] → zW X (zRet (.int (iI k)) h) h 0 0 49 env [] := by
    intro j n h1 h2 h3 env he
    refine zW.cut he ?_
    obtain ⟨t1, t2, t3, t4, hb, -⟩ := pw_t j (by omega)
    have s1 := (pw_s j (by omega)).2.1
    refine z_iload_n K dJ21_numberOfTrailingZeros_49 rfl rfl ?_
    refine j_bipush K dJ21_numberOfTrailingZeros_50 (by decide +kernel) ?_
    refine j_icmp_le (tgt := 62) K dJ21_numberOfTrailingZeros_52 rfl (by omega) (by omega) (fun c_52 => ?_) (fun c_52 => ?_)
    · have hj : j ≤ 4 := by omega
      exact j62 j n h1 hj h3 _ ⟨rfl, rfl, trivial⟩
    · have hj : 5 ≤ j := by omega
      refine j_iinc K dJ21_numberOfTrailingZeros_55 rfl (by decide) rfl ?_
      refine z_iload_n K dJ21_numberOfTrailingZeros_58 rfl rfl ?_
      refine j_iconst K dJ21_numberOfTrailingZeros_59 ?_
      refine z_iushr K dJ21_numberOfTrailingZeros_60 ?_
      rw [ush4 (by omega), s1 (by omega)]
      refine z_istore_n K dJ21_numberOfTrailingZeros_61 rfl (by decide) rfl ?_
      exact j62 (j - 4) (n + 4) (by omega) (by omega) (by omega) _ ⟨rfl, rfl, trivial⟩
  have j34 : ∀ (j : Nat) (n : Int), 1 ≤ j → j ≤ 16 → n + j = k + 1 → ∀ env, zsub env [(0, .int (iI ((2 ^ j - 1 : Nat) : Int))), (1, .int (iI n))] → zW X (zRet (.int (iI k)) h) h 0 0 34 env [] := by
    intro j n h1 h2 h3 env he
    refine zW.cut he ?_
    obtain ⟨t1, t2, t3, t4, hb, -⟩ := pw_t j (by omega)
    have s1 := (pw_s j (by omega)).2.2.1
    refine z_iload_n K dJ21_numberOfTrailingZeros_34 rfl rfl ?_
    refine j_sipush K dJ21_numberOfTrailingZeros_35 (by decide +kernel) ?_
    refine j_icmp_le (tgt := 49) K dJ21_numberOfTrailingZeros_38 rfl (by omega) (by omega) (fun c_38 => ?_) (fun c_38 => ?_)
    · have hj : j ≤ 8 := by omega
      exact j49 j n h1 hj h3 _ ⟨rfl, rfl, trivial⟩
    · have hj : 9 ≤ j := by omega
      refine j_iinc K dJ21_numberOfTrailingZeros_41 rfl (by decide) rfl ?_
      refine z_iload_n K dJ21_numberOfTrailingZeros_44 rfl rfl ?_
      refine j_bipush K dJ21_numberOfTrailingZeros_45 (by decide +kernel) ?_
      refine z_iushr K dJ21_numberOfTrailingZeros_47 ?_
      rw [ush8 (by omega), s1 (by omega)]
      refine z_istore_n K dJ21_numberOfTrailingZeros_48 rfl (by decide) rfl ?_
      exact j49 (j - 8) (n + 8) (by omega) (by omega) (by omega) _ ⟨rfl, rfl, trivial⟩
  obtain ⟨t1, t2, t3, t4, hb, t6⟩ := pw_t k (by omega)
  have s1 := (pw_s k (by omega)).2.2.2
  have lb := low_bits hL
  refine z_iload_n K dJ21_numberOfTrailingZeros_0 rfl rfl ?_
  refine j_iconst K dJ21_numberOfTrailingZeros_1 ?_
  refine z_ixor K dJ21_numberOfTrailingZeros_2 ?_
  refine z_iload_n K dJ21_numberOfTrailingZeros_3 rfl rfl ?_
  refine j_iconst K dJ21_numberOfTrailingZeros_4 ?_
  refine j_isub K dJ21_numberOfTrailingZeros_5 ?_
  refine z_iand K dJ21_numberOfTrailingZeros_6 ?_
  rw [lb]
  refine z_istore_n K dJ21_numberOfTrailingZeros_7 rfl (by decide) rfl ?_
  refine z_iload_n K dJ21_numberOfTrailingZeros_8 rfl rfl ?_
  refine j_if_gt (tgt := 17) K dJ21_numberOfTrailingZeros_9 rfl (by omega) (fun c_9 => ?_) (fun c_9 => ?_)
  · have hk1 : 1 ≤ k := by (rcases Nat.eq_zero_or_pos k with q | q <;> first | (subst q; exact absurd c_9 (by decide)) | exact q)
    refine j_iconst K dJ21_numberOfTrailingZeros_17 ?_
    refine z_istore_n K dJ21_numberOfTrailingZeros_18 rfl (by decide) rfl ?_
    refine z_iload_n K dJ21_numberOfTrailingZeros_19 rfl rfl ?_
    refine j_ldcw K 65536 q1070 (by decide +kernel) dJ21_numberOfTrailingZeros_20 ?_
    refine j_icmp_le (tgt := 34) K dJ21_numberOfTrailingZeros_23 rfl (by omega) (by omega) (fun c_23 => ?_) (fun c_23 => ?_)
    · have hj : k ≤ 16 := by omega
      exact j34 k 1 hk1 hj (by omega) _ ⟨rfl, rfl, trivial⟩
    · have hj : 17 ≤ k := by omega
      refine j_iinc K dJ21_numberOfTrailingZeros_26 rfl (by decide) rfl ?_
      refine z_iload_n K dJ21_numberOfTrailingZeros_29 rfl rfl ?_
      refine j_bipush K dJ21_numberOfTrailingZeros_30 (by decide +kernel) ?_
      refine z_iushr K dJ21_numberOfTrailingZeros_32 ?_
      rw [ush16 (by omega), s1 (by omega)]
      refine z_istore_n K dJ21_numberOfTrailingZeros_33 rfl (by decide) rfl ?_
      exact j34 (k - 16) (1 + 16) (by omega) (by omega) (by omega) _ ⟨rfl, rfl, trivial⟩
  · have hk0 : k = 0 := by (rcases Nat.eq_zero_or_pos k with q | q <;> first | exact q | exact absurd c_9 (by have := t6 q; omega))
    subst hk0
    refine z_iload_n K dJ21_numberOfTrailingZeros_12 rfl rfl ?_
    refine j_bipush K dJ21_numberOfTrailingZeros_13 (by decide +kernel) ?_
    refine z_iand K dJ21_numberOfTrailingZeros_15 ?_
    exact z_iret K (by omega) (by omega) (⟨by decide, rfl⟩) dJ21_numberOfTrailingZeros_16

