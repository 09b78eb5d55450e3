/-! ===== masks of operations and machines ===== -/
theorem iI_bv {n : Nat} : (iI (n : Int)).toBitVec = BitVec.ofNat 32 n := by rw [iI_nat]; rfl
theorem sh_k : ∀ k, k < 32 → ((iI ((k : Nat) : Int) &&& 31).toBitVec.smod 32).toNat = k := by decide +kernel
theorem sh_1 : ∀ k, k < 31 → iI 1 <<< (iI ((k : Nat) : Int) &&& 31) = iI ((2 ^ k : Nat) : Int) := by decide +kernel
theorem sh_b : ∀ k, k < 31 → (iI ((2 ^ k : Nat) : Int)).toBitVec = BitVec.twoPow 32 k := by decide +kernel
theorem sh_r {M k : Nat} (hM : M < 2 ^ 31) (hk : k < 32) : iI (M : Int) >>> (iI (k : Int) &&& 31) = iI ((M / 2 ^ k : Nat) : Int) := by
  rw [iI_nat, iI_nat (M / 2 ^ k)]
  exact pk_shrN hM _ k (sh_k k hk)
theorem and_1 {M : Nat} (hM : M < 2 ^ 31) : iI (M : Int) &&& iI 1 = iI ((M % 2 : Nat) : Int) := by
  rw [iI_nat, iI_nat (M % 2)]
  exact pk_andN (Nat.lt_trans hM (by decide)) 1 (by decide)
theorem or_k {M k : Nat} (hM : M < 2 ^ 31) (hk : k < 31) (hb : M / 2 ^ k % 2 = 0) : iI (M : Int) ||| iI ((2 ^ k : Nat) : Int) = iI ((M + 2 ^ k : Nat) : Int) := by
  have hz : (iI (M : Int)).toBitVec &&& BitVec.twoPow 32 k = 0#32 := by
    rw [BitVec.and_twoPow, iI_bv, BitVec.getLsbD_ofNat]
    have : M.testBit k = false := by
      rw [Nat.testBit_eq_decide_div_mod_eq, hb]
      rfl
    simp [this]
  have e : iI ((M + 2 ^ k : Nat) : Int) = iI (M : Int) + iI ((2 ^ k : Nat) : Int) := by rw [iI_add]; congr 1
  rw [e]
  apply Int32.toBitVec_inj.mp
  rw [Int32.toBitVec_or, Int32.toBitVec_add, sh_b k hk, BitVec.add_eq_or_of_and_eq_zero _ _ hz]
/-- the mask of those that have a time -/
def dnM (st : Nat → Int) : Nat → Nat
  | 0 => 0
  | n + 1 => dnM st n + if 0 ≤ st n then 2 ^ n else 0
theorem dnM_lt (st : Nat → Int) : ∀ n, dnM st n < 2 ^ n
  | 0 => by simp [dnM]
  | n + 1 => by
    have := dnM_lt st n
    unfold dnM
    rw [Nat.pow_succ]
    split <;> omega
theorem dnM_bit {st : Nat → Int} {k : Nat} : ∀ n, k < n → dnM st n / 2 ^ k % 2 = if 0 ≤ st k then 1 else 0
  | 0, h => by omega
  | n + 1, h => by
    have hl := dnM_lt st n
    unfold dnM
    rcases (by omega : k < n ∨ k = n) with q | q
    · have ih := dnM_bit (st := st) n q
      have e : 2 ^ n = 2 ^ k * (2 * 2 ^ (n - k - 1)) := by
        rw [← Nat.pow_succ', ← Nat.pow_add]
        congr 1
        omega
      by_cases c : 0 ≤ st n
      · rw [if_pos c]
        have e2 : (dnM st n + 2 ^ n) / 2 ^ k = dnM st n / 2 ^ k + 2 * 2 ^ (n - k - 1) := by
          conv => lhs; rw [e]
          rw [Nat.add_mul_div_left _ _ (Nat.two_pow_pos k)]
        rw [e2, Nat.add_mul_mod_self_left, ih]
      · rw [if_neg c, Nat.add_zero, ih]
    · subst q
      by_cases c : 0 ≤ st k
      · rw [if_pos c, if_pos c, Nat.add_div_right _ (Nat.two_pow_pos k), Nat.div_eq_of_lt hl]
      · rw [if_neg c, if_neg c, Nat.add_zero, Nat.div_eq_of_lt hl]
theorem dnM_ext {f g : Nat → Int} : ∀ n, (∀ i, i < n → (0 ≤ f i ↔ 0 ≤ g i)) → dnM f n = dnM g n
  | 0, _ => rfl
  | n + 1, h => by
    unfold dnM
    rw [dnM_ext n (fun i hi => h i (by omega))]
    have := h n (by omega)
    by_cases c : 0 ≤ f n
    · rw [if_pos c, if_pos (this.mp c)]
    · rw [if_neg c, if_neg (fun q => c (this.mpr q))]
theorem dnM_sup {st : Nat → Int} {k : Nat} {v : Int} (h0 : st k < 0) (hv : 0 ≤ v) : ∀ n, k < n → dnM (sup st k v) n = dnM st n + 2 ^ k
  | 0, h => by omega
  | n + 1, h => by
    unfold dnM
    rcases (by omega : k < n ∨ k = n) with q | q
    · rw [dnM_sup h0 hv n q, sup_n (by omega)]
      omega
    · subst q
      rw [sup_s, if_pos hv, if_neg (by omega), dnM_ext k (fun i hi => by rw [sup_n (by omega)])]
      omega
theorem dnM_0 {st : Nat → Int} : ∀ n, (∀ i, i < n → st i < 0) → dnM st n = 0
  | 0, _ => rfl
  | n + 1, h => by
    unfold dnM
    rw [dnM_0 n (fun i hi => h i (by omega)), if_neg (by have := h n (by omega); omega)]
theorem dnM_all {st : Nat → Int} : ∀ n, dnM st n = 2 ^ n - 1 ↔ cntU st n = 0
  | 0 => by simp [dnM, cntU]
  | n + 1 => by
    have ih := dnM_all (st := st) n
    have hl := dnM_lt st n
    have hp := Nat.two_pow_pos n
    have hr := cntU_r st n
    unfold dnM cntU
    rw [Nat.pow_succ]
    by_cases c : 0 ≤ st n
    · rw [if_pos c, if_neg (by omega)]
      constructor
      · intro h
        have := ih.mp (by omega)
        omega
      · intro h
        have := ih.mpr (by omega)
        omega
    · rw [if_neg c, if_pos (by omega)]
      constructor
      · intro h; omega
      · intro h; omega
/-- the greatest end of those that have a time -/
def gMx (s st : Nat → Int) : Nat → Int
  | 0 => 0
  | n + 1 => max (gMx s st n) (if 0 ≤ st n then st n + s (82 + (n : Int)).toNat else 0)
theorem gMx_0 (s st : Nat → Int) : ∀ n, 0 ≤ gMx s st n
  | 0 => by simp [gMx]
  | n + 1 => by
    have := gMx_0 s st n
    unfold gMx
    omega
theorem gMx_ext {s f g : Nat → Int} : ∀ n, (∀ i, i < n → f i = g i) → gMx s f n = gMx s g n
  | 0, _ => rfl
  | n + 1, h => by
    unfold gMx
    rw [gMx_ext n (fun i hi => h i (by omega)), h n (by omega)]
theorem gMx_sup {s st : Nat → Int} {k : Nat} {v : Int} (h0 : st k < 0) (hv : 0 ≤ v) (hd : 0 ≤ s (82 + (k : Int)).toNat) : ∀ n, k < n → gMx s (sup st k v) n = max (gMx s st n) (v + s (82 + (k : Int)).toNat)
  | 0, h => by omega
  | n + 1, h => by
    have z := gMx_0 s st n
    unfold gMx
    rcases (by omega : k < n ∨ k = n) with q | q
    · rw [gMx_sup h0 hv hd n q, sup_n (by omega)]
      omega
    · subst q
      rw [sup_s, if_pos hv, if_neg (by omega), gMx_ext k (fun i hi => by rw [sup_n (by omega)])]
      omega
theorem gMx_neg {s st : Nat → Int} : ∀ n, (∀ i, i < n → st i < 0) → gMx s st n = 0
  | 0, _ => rfl
  | n + 1, h => by
    unfold gMx
    rw [gMx_neg n (fun i hi => h i (by omega)), if_neg (by have := h n (by omega); omega)]
    omega
theorem gMx_all {s st : Nat → Int} : ∀ n, cntU st n = 0 → gMx s st n = gEnd s st n
  | 0, _ => rfl
  | n + 1, h => by
    have h1 := cntU_r st n
    unfold cntU at h
    by_cases c : st n < 0
    · rw [if_pos c] at h; omega
    · rw [if_neg c] at h
      unfold gMx gEnd
      rw [gMx_all n (by omega), if_pos (by omega)]
theorem gMx_le {s st : Nat → Int} {B : Int} (hB : 0 ≤ B) : ∀ n, (∀ i : Nat, i < n → 0 ≤ st i → st i + s (82 + (i : Int)).toNat ≤ B) → gMx s st n ≤ B
  | 0, _ => by simpa [gMx] using hB
  | n + 1, h => by
    have ih := gMx_le hB n (fun i hi => h i (by omega))
    unfold gMx
    by_cases c : 0 ≤ st n
    · rw [if_pos c]; have := h n (by omega) c; omega
    · rw [if_neg c]; omega
/-- which machines are not closed, by a mask -/
def oB (a : Nat) : Nat → Int := fun m => ((a / 2 ^ m % 2 : Nat) : Int)
theorem oB_r (a m : Nat) : oB a m = 0 ∨ oB a m = 1 := by unfold oB; omega
theorem oB_0 (m : Nat) : oB 0 m = 0 := by simp [oB]
theorem oB_bit : ∀ a, a < 16 → ∀ m, m < 4 → (iI ((a : Nat) : Int) >>> (iI ((m : Nat) : Int) &&& 31)) &&& iI 1 = iI (oB a m) := by decide +kernel
