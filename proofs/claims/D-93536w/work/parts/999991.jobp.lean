/-! ===== what is told of a job: plain ===== -/
theorem nmL_v {t : Nat → Int} {n : Nat} : ∀ (j : Nat) (v p b : Int), 0 ≤ v → v ≤ b → 0 ≤ (nmL t n j v p).1 ∧ (nmL t n j v p).1 ≤ (b + 1) * 10 ^ j - 1
  | 0, v, p, b, h0, h1 => by
    show 0 ≤ v ∧ v ≤ (b + 1) * 10 ^ 0 - 1
    rw [Int.pow_zero]
    omega
  | j + 1, v, p, b, h0, h1 => by
    unfold nmL
    split
    · rename_i c
      have hd := c.2
      have := nmL_v (t := t) (n := n) j (10 * v + (hrC t n p - 48)) (p + 1) (10 * b + 9) (by omega) (by omega)
      rw [show (10 * b + 9 + 1) = (b + 1) * 10 by omega, Int.mul_assoc, ← Int.pow_succ'] at this
      exact this
    · have : (b + 1) * 1 ≤ (b + 1) * 10 ^ (j + 1) := Int.mul_le_mul_of_nonneg_left (Int.pow_pos (by decide)) (by omega)
      exact ⟨h0, by show v ≤ _; omega⟩
theorem nmR_v {t : Nat → Int} {n : Nat} {p : Int} (h : isD t n p) : 0 ≤ (nmR t n p).1 ∧ (nmR t n p).1 ≤ 999 := by
  have := nmL_v (t := t) (n := n) 2 (hrC t n p - 48) (p + 1) 9 (by omega) (by omega)
  exact ⟨this.1, Int.le_trans this.2 (by decide)⟩
theorem nmR_p {t : Nat → Int} {n : Nat} {p : Int} (h : isD t n p) : p + 1 ≤ (nmR t n p).2 ∧ (nmR t n p).2 ≤ n := nmL_p (t := t) (n := n) 2 _ (p + 1) (by have := isD.lt h; omega)
theorem opP_ok {t : Nat → Int} {n : Nat} {p m u f q : Int} (h : opP t n p = .inl (m, u, f, q)) : (0 ≤ m ∧ m ≤ 9) ∧ (0 ≤ u ∧ u ≤ 999) ∧ (0 ≤ f ∧ f ≤ 9) ∧ p + 5 ≤ q ∧ q ≤ n := by
  unfold opP at h
  split at h
  · cases h
  · rename_i d0
    split at h
    · cases h
    · split at h
      · cases h
      · rename_i d2
        split at h
        · cases h
        · split at h
          · cases h
          · rename_i d4
            have d0 := Decidable.not_not.mp d0
            have d2 := Decidable.not_not.mp d2
            have d4 := Decidable.not_not.mp d4
            have := nmR_v d2
            have := nmR_p d2
            have := isD.lt d4
            cases h
            omega
theorem opP_fl {t : Nat → Int} {n : Nat} {p q : Int} (hp : p ≤ n) (h : opP t n p = .inr q) : p ≤ q ∧ q ≤ n := by
  unfold opP at h
  split at h
  · cases h; omega
  · rename_i d0
    have d0 := isD.lt (Decidable.not_not.mp d0)
    split at h
    · cases h; omega
    · rename_i d1
      have d1 := hrC.lt (Decidable.not_not.mp d1) (by decide)
      split at h
      · cases h; omega
      · rename_i d2
        have d2 := nmR_p (Decidable.not_not.mp d2)
        split at h
        · cases h; omega
        · rename_i d3
          have d3 := hrC.lt (Decidable.not_not.mp d3) (by decide)
          split at h
          · cases h; omega
          · cases h
/-- the numbers of a job: j more, of which the next is the k-th -/
def hdL (t : Nat → Int) (n : Nat) : Nat → Int → (Nat → Int) → Int → ((Nat → Int) × Int) ⊕ Int
  | 0, _, f, p => .inl (f, p)
  | j + 1, k, f, p =>
    if 0 < k ∧ hrC t n p ≠ 44 then .inr p else
    if ¬ isD t n (if 0 < k then p + 1 else p) then .inr (if 0 < k then p + 1 else p) else
    hdL t n j (k + 1) (sup f k.toNat (nmR t n (if 0 < k then p + 1 else p)).1) (nmR t n (if 0 < k then p + 1 else p)).2
/-- the operations of a job -/
def opL (t : Nat → Int) (n : Nat) : Nat → Int → (List (Int × Int × Int) × Int) ⊕ Int
  | 0, p => .inr p
  | j + 1, p => match opP t n p with
    | .inr q => .inr q
    | .inl (m, u, f, q) => if hrC t n q = 47 then (match opL t n j (q + 1) with
      | .inr e => .inr e
      | .inl (l, e) => .inl ((m, u, f) :: l, e)) else .inl ([(m, u, f)], q)
