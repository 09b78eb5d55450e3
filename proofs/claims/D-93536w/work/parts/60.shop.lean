/-! ===== the picture of a shop (printed by tools/genshop.py): at the names b .. b + 71, by its world u: u 0 the row of 203 numbers; u 1 .. u 4: before, ready, start, end; u 5: makespan, done, held, heldUntil; u 6: changes of the lists; u 7: which breakdown lists have an array; u 8: the names of the breakdowns ===== -/
def sF (b : Nat) (u : tW) : List Value := [.ref (b + 1), .ref (b + 3), .ref (b + 7), .ref (b + 8), .ref (b + 18), .ref (b + 28), .ref (b + 29), .ref (b + 30), .ref (b + 31), .int (iI (u 5 0)), .int (iI (u 5 1)), .int (iI (u 5 2)), .int (iI (u 5 3))]
def sC (b : Nat) (u : tW) (i : Nat) : Option zC :=
  if i = 0 then some (.inr (2, sF b u)) else
  if i = 1 then some (oL (u 6 0) (if u 0 0 = 0 then 1 else b + 2) (u 0 0)) else
  if i = 2 then (if u 0 0 = 0 then none else some (aR 10 (u 0 0).toNat fun j => b + 32 + j)) else
  if i = 3 then some (oL (u 6 1) (if u 0 1 = 0 then 1 else if u 0 1 ≤ 10 then b + 4 else if u 0 1 ≤ 15 then b + 5 else b + 6) (u 0 1)) else
  if i = 4 then (if u 0 1 = 0 then none else some (aR 10 (min (u 0 1).toNat 10) fun j => b + 52 + j)) else
  if i = 5 then (if u 0 1 ≤ 10 then none else some (aR 15 (min (u 0 1).toNat 15) fun j => b + 52 + j)) else
  if i = 6 then (if u 0 1 ≤ 15 then none else some (aR 22 (min (u 0 1).toNat 22) fun j => b + 52 + j)) else
  if i = 7 then some (aI 9 fun c => u 0 (142 + c)) else
  if i = 8 then some (oL (u 6 2) (b + 9) 4) else
  if i = 9 then some (aR 10 4 fun m => b + 10 + m) else
  if i < 14 then some (oL (u 6 (4 + (i - 10))) (if u 7 (i - 10) = 0 then 1 else b + 14 + (i - 10)) (u 0 (151 + (i - 10)))) else
  if i < 18 then (if u 7 (i - 14) = 0 then none else some (aR 10 (u 0 (151 + (i - 14))).toNat fun q => (u 8 (3 * (i - 14) + q)).toNat)) else
  if i = 18 then some (oL (u 6 3) (b + 19) 4) else
  if i = 19 then some (aR 10 4 fun m => b + 20 + m) else
  if i < 24 then some (.inr (3, [.ref (b + 24 + (i - 20)), .int (iI (u 0 (179 + (i - 20))))])) else
  if i < 28 then some (aI 5 fun p => u 0 (183 + 5 * (i - 24) + p)) else
  if i < 32 then some (aI 20 (u (1 + (i - 28)))) else
  if i < 37 then (if ((i - 32 : Nat) : Int) < u 0 0 then some (.inr (4, [.ref (b + 37 + (i - 32)), .ref (b + 42 + (i - 32))])) else none) else
  if i < 42 then (if ((i - 37 : Nat) : Int) < u 0 0 then some (aI 3 fun q => u 0 (2 + 5 * q + (i - 37))) else none) else
  if i < 47 then (if ((i - 42 : Nat) : Int) < u 0 0 then some (oL (u 6 (8 + (i - 42))) (if u 0 (17 + (i - 42)) = 0 then 1 else b + 47 + (i - 42)) (u 0 (17 + (i - 42)))) else none) else
  if i < 52 then (if ((i - 47 : Nat) : Int) < u 0 0 ∧ u 0 (17 + (i - 47)) ≠ 0 then some (aR 10 (u 0 (17 + (i - 47))).toNat fun q => b + 52 + (u 0 (22 + 4 * (i - 47) + q)).toNat) else none) else
  if i < 72 then (if ((i - 52 : Nat) : Int) < u 0 1 then some (.inr (5, [.int (iI (i - 52 : Nat)), .int (iI (u 0 (42 + (i - 52)))), .int (iI (u 0 (62 + (i - 52)))), .int (iI (u 0 (102 + (i - 52)))), .int (iI (u 0 (122 + (i - 52)))), .int (iI (u 0 (82 + (i - 52))))])) else none) else
  none
def sH (b : Nat) (u : tW) (g : zH) : zH := fun m => if b ≤ m ∧ m < b + 72 then sC b u (m - b) else g m
theorem sH_in {b : Nat} {u : tW} {g : zH} (i : Nat) (hi : i < 72) : sH b u g (b + i) = sC b u i := by
  unfold sH
  rw [if_pos ⟨by omega, by omega⟩, show b + i - b = i by omega]
theorem sH_out {b : Nat} {u : tW} {g : zH} {m : Nat} (hm : m < b ∨ b + 72 ≤ m) : sH b u g m = g m := by
  unfold sH
  rw [if_neg (by omega)]
/-- what is put outside goes to the rest -/
theorem sH_upo {b : Nat} {u : tW} {g : zH} {m : Nat} {c : zC} (hm : m < b ∨ b + 72 ≤ m) : zup (sH b u g) m c = sH b u (zup g m c) := by
  funext q
  by_cases hq : q = m
  · subst hq
    rw [zup_at, sH_out hm, zup_at]
  · rw [zup_ne hq]
    by_cases h1 : q < b ∨ b + 72 ≤ q
    · rw [sH_out h1, sH_out h1, zup_ne hq]
    · unfold sH
      rw [if_pos (by omega), if_pos (by omega)]
theorem sH_congr {b : Nat} {u u' : tW} {g g' : zH} (h1 : ∀ i, i < 72 → sC b u i = sC b u' i) (h2 : ∀ m, m < b ∨ b + 72 ≤ m → g m = g' m) : sH b u g = sH b u' g' := by
  funext m
  unfold sH
  by_cases h : b ≤ m ∧ m < b + 72
  · rw [if_pos h, if_pos h, h1 _ (by omega)]
  · rw [if_neg h, if_neg h, h2 m (by omega)]
/-- one cell changes -/
theorem sH_up {b : Nat} {u u' : tW} {g : zH} {off : Nat} {c : zC} (ho : off < 72) (h1 : sC b u' off = some c) (h2 : ∀ i, i < 72 → i ≠ off → sC b u i = sC b u' i) : zup (sH b u g) (b + off) c = sH b u' g := by
  funext m
  by_cases hm : m = b + off
  · subst hm
    rw [zup_at, sH_in _ ho, h1]
  · rw [zup_ne hm]
    unfold sH
    by_cases h : b ≤ m ∧ m < b + 72
    · rw [if_pos h, if_pos h, h2 _ (by omega) (by omega)]
    · rw [if_neg h, if_neg h]
theorem sC_0 {b : Nat} {u : tW} : sC b u 0 = some (.inr (2, sF b u)) := rfl
theorem sC_1 {b : Nat} {u : tW} : sC b u 1 = some (oL (u 6 0) (if u 0 0 = 0 then 1 else b + 2) (u 0 0)) := rfl
theorem sC_2 {b : Nat} {u : tW} : sC b u 2 = (if u 0 0 = 0 then none else some (aR 10 (u 0 0).toNat fun j => b + 32 + j)) := rfl
theorem sC_3 {b : Nat} {u : tW} : sC b u 3 = some (oL (u 6 1) (if u 0 1 = 0 then 1 else if u 0 1 ≤ 10 then b + 4 else if u 0 1 ≤ 15 then b + 5 else b + 6) (u 0 1)) := rfl
theorem sC_4 {b : Nat} {u : tW} : sC b u 4 = (if u 0 1 = 0 then none else some (aR 10 (min (u 0 1).toNat 10) fun j => b + 52 + j)) := rfl
theorem sC_5 {b : Nat} {u : tW} : sC b u 5 = (if u 0 1 ≤ 10 then none else some (aR 15 (min (u 0 1).toNat 15) fun j => b + 52 + j)) := rfl
theorem sC_6 {b : Nat} {u : tW} : sC b u 6 = (if u 0 1 ≤ 15 then none else some (aR 22 (min (u 0 1).toNat 22) fun j => b + 52 + j)) := rfl
theorem sC_7 {b : Nat} {u : tW} : sC b u 7 = some (aI 9 fun c => u 0 (142 + c)) := rfl
theorem sC_8 {b : Nat} {u : tW} : sC b u 8 = some (oL (u 6 2) (b + 9) 4) := rfl
theorem sC_9 {b : Nat} {u : tW} : sC b u 9 = some (aR 10 4 fun m => b + 10 + m) := rfl
theorem sC_10 {b : Nat} {u : tW} {j : Nat} (hj : j < 4) : sC b u (10 + j) = some (oL (u 6 (4 + j)) (if u 7 j = 0 then 1 else b + 14 + j) (u 0 (151 + j))) := by
  have e : 10 + j - 10 = j := by omega
  unfold sC
  rw [if_neg (show ¬ (10 + j = 0) by omega), if_neg (show ¬ (10 + j = 1) by omega), if_neg (show ¬ (10 + j = 2) by omega), if_neg (show ¬ (10 + j = 3) by omega), if_neg (show ¬ (10 + j = 4) by omega), if_neg (show ¬ (10 + j = 5) by omega), if_neg (show ¬ (10 + j = 6) by omega), if_neg (show ¬ (10 + j = 7) by omega), if_neg (show ¬ (10 + j = 8) by omega), if_neg (show ¬ (10 + j = 9) by omega), if_pos (show 10 + j < 14 by omega), e]
theorem sC_14 {b : Nat} {u : tW} {j : Nat} (hj : j < 4) : sC b u (14 + j) = (if u 7 j = 0 then none else some (aR 10 (u 0 (151 + j)).toNat fun q => (u 8 (3 * j + q)).toNat)) := by
  have e : 14 + j - 14 = j := by omega
  unfold sC
  rw [if_neg (show ¬ (14 + j = 0) by omega), if_neg (show ¬ (14 + j = 1) by omega), if_neg (show ¬ (14 + j = 2) by omega), if_neg (show ¬ (14 + j = 3) by omega), if_neg (show ¬ (14 + j = 4) by omega), if_neg (show ¬ (14 + j = 5) by omega), if_neg (show ¬ (14 + j = 6) by omega), if_neg (show ¬ (14 + j = 7) by omega), if_neg (show ¬ (14 + j = 8) by omega), if_neg (show ¬ (14 + j = 9) by omega), if_neg (show ¬ (14 + j < 14) by omega), if_pos (show 14 + j < 18 by omega), e]
theorem sC_18 {b : Nat} {u : tW} : sC b u 18 = some (oL (u 6 3) (b + 19) 4) := rfl
theorem sC_19 {b : Nat} {u : tW} : sC b u 19 = some (aR 10 4 fun m => b + 20 + m) := rfl
theorem sC_20 {b : Nat} {u : tW} {j : Nat} (hj : j < 4) : sC b u (20 + j) = some (.inr (3, [.ref (b + 24 + j), .int (iI (u 0 (179 + j)))])) := by
  have e : 20 + j - 20 = j := by omega
  unfold sC
  rw [if_neg (show ¬ (20 + j = 0) by omega), if_neg (show ¬ (20 + j = 1) by omega), if_neg (show ¬ (20 + j = 2) by omega), if_neg (show ¬ (20 + j = 3) by omega), if_neg (show ¬ (20 + j = 4) by omega), if_neg (show ¬ (20 + j = 5) by omega), if_neg (show ¬ (20 + j = 6) by omega), if_neg (show ¬ (20 + j = 7) by omega), if_neg (show ¬ (20 + j = 8) by omega), if_neg (show ¬ (20 + j = 9) by omega), if_neg (show ¬ (20 + j < 14) by omega), if_neg (show ¬ (20 + j < 18) by omega), if_neg (show ¬ (20 + j = 18) by omega), if_neg (show ¬ (20 + j = 19) by omega), if_pos (show 20 + j < 24 by omega), e]
theorem sC_24 {b : Nat} {u : tW} {j : Nat} (hj : j < 4) : sC b u (24 + j) = some (aI 5 fun p => u 0 (183 + 5 * j + p)) := by
  have e : 24 + j - 24 = j := by omega
  unfold sC
  rw [if_neg (show ¬ (24 + j = 0) by omega), if_neg (show ¬ (24 + j = 1) by omega), if_neg (show ¬ (24 + j = 2) by omega), if_neg (show ¬ (24 + j = 3) by omega), if_neg (show ¬ (24 + j = 4) by omega), if_neg (show ¬ (24 + j = 5) by omega), if_neg (show ¬ (24 + j = 6) by omega), if_neg (show ¬ (24 + j = 7) by omega), if_neg (show ¬ (24 + j = 8) by omega), if_neg (show ¬ (24 + j = 9) by omega), if_neg (show ¬ (24 + j < 14) by omega), if_neg (show ¬ (24 + j < 18) by omega), if_neg (show ¬ (24 + j = 18) by omega), if_neg (show ¬ (24 + j = 19) by omega), if_neg (show ¬ (24 + j < 24) by omega), if_pos (show 24 + j < 28 by omega), e]
theorem sC_28 {b : Nat} {u : tW} {j : Nat} (hj : j < 4) : sC b u (28 + j) = some (aI 20 (u (1 + j))) := by
  have e : 28 + j - 28 = j := by omega
  unfold sC
  rw [if_neg (show ¬ (28 + j = 0) by omega), if_neg (show ¬ (28 + j = 1) by omega), if_neg (show ¬ (28 + j = 2) by omega), if_neg (show ¬ (28 + j = 3) by omega), if_neg (show ¬ (28 + j = 4) by omega), if_neg (show ¬ (28 + j = 5) by omega), if_neg (show ¬ (28 + j = 6) by omega), if_neg (show ¬ (28 + j = 7) by omega), if_neg (show ¬ (28 + j = 8) by omega), if_neg (show ¬ (28 + j = 9) by omega), if_neg (show ¬ (28 + j < 14) by omega), if_neg (show ¬ (28 + j < 18) by omega), if_neg (show ¬ (28 + j = 18) by omega), if_neg (show ¬ (28 + j = 19) by omega), if_neg (show ¬ (28 + j < 24) by omega), if_neg (show ¬ (28 + j < 28) by omega), if_pos (show 28 + j < 32 by omega), e]
theorem sC_32 {b : Nat} {u : tW} {j : Nat} (hj : j < 5) : sC b u (32 + j) = (if ((j : Nat) : Int) < u 0 0 then some (.inr (4, [.ref (b + 37 + j), .ref (b + 42 + j)])) else none) := by
  have e : 32 + j - 32 = j := by omega
  unfold sC
  rw [if_neg (show ¬ (32 + j = 0) by omega), if_neg (show ¬ (32 + j = 1) by omega), if_neg (show ¬ (32 + j = 2) by omega), if_neg (show ¬ (32 + j = 3) by omega), if_neg (show ¬ (32 + j = 4) by omega), if_neg (show ¬ (32 + j = 5) by omega), if_neg (show ¬ (32 + j = 6) by omega), if_neg (show ¬ (32 + j = 7) by omega), if_neg (show ¬ (32 + j = 8) by omega), if_neg (show ¬ (32 + j = 9) by omega), if_neg (show ¬ (32 + j < 14) by omega), if_neg (show ¬ (32 + j < 18) by omega), if_neg (show ¬ (32 + j = 18) by omega), if_neg (show ¬ (32 + j = 19) by omega), if_neg (show ¬ (32 + j < 24) by omega), if_neg (show ¬ (32 + j < 28) by omega), if_neg (show ¬ (32 + j < 32) by omega), if_pos (show 32 + j < 37 by omega), e]
theorem sC_37 {b : Nat} {u : tW} {j : Nat} (hj : j < 5) : sC b u (37 + j) = (if ((j : Nat) : Int) < u 0 0 then some (aI 3 fun q => u 0 (2 + 5 * q + j)) else none) := by
  have e : 37 + j - 37 = j := by omega
  unfold sC
  rw [if_neg (show ¬ (37 + j = 0) by omega), if_neg (show ¬ (37 + j = 1) by omega), if_neg (show ¬ (37 + j = 2) by omega), if_neg (show ¬ (37 + j = 3) by omega), if_neg (show ¬ (37 + j = 4) by omega), if_neg (show ¬ (37 + j = 5) by omega), if_neg (show ¬ (37 + j = 6) by omega), if_neg (show ¬ (37 + j = 7) by omega), if_neg (show ¬ (37 + j = 8) by omega), if_neg (show ¬ (37 + j = 9) by omega), if_neg (show ¬ (37 + j < 14) by omega), if_neg (show ¬ (37 + j < 18) by omega), if_neg (show ¬ (37 + j = 18) by omega), if_neg (show ¬ (37 + j = 19) by omega), if_neg (show ¬ (37 + j < 24) by omega), if_neg (show ¬ (37 + j < 28) by omega), if_neg (show ¬ (37 + j < 32) by omega), if_neg (show ¬ (37 + j < 37) by omega), if_pos (show 37 + j < 42 by omega), e]
theorem sC_42 {b : Nat} {u : tW} {j : Nat} (hj : j < 5) : sC b u (42 + j) = (if ((j : Nat) : Int) < u 0 0 then some (oL (u 6 (8 + j)) (if u 0 (17 + j) = 0 then 1 else b + 47 + j) (u 0 (17 + j))) else none) := by
  have e : 42 + j - 42 = j := by omega
  unfold sC
  rw [if_neg (show ¬ (42 + j = 0) by omega), if_neg (show ¬ (42 + j = 1) by omega), if_neg (show ¬ (42 + j = 2) by omega), if_neg (show ¬ (42 + j = 3) by omega), if_neg (show ¬ (42 + j = 4) by omega), if_neg (show ¬ (42 + j = 5) by omega), if_neg (show ¬ (42 + j = 6) by omega), if_neg (show ¬ (42 + j = 7) by omega), if_neg (show ¬ (42 + j = 8) by omega), if_neg (show ¬ (42 + j = 9) by omega), if_neg (show ¬ (42 + j < 14) by omega), if_neg (show ¬ (42 + j < 18) by omega), if_neg (show ¬ (42 + j = 18) by omega), if_neg (show ¬ (42 + j = 19) by omega), if_neg (show ¬ (42 + j < 24) by omega), if_neg (show ¬ (42 + j < 28) by omega), if_neg (show ¬ (42 + j < 32) by omega), if_neg (show ¬ (42 + j < 37) by omega), if_neg (show ¬ (42 + j < 42) by omega), if_pos (show 42 + j < 47 by omega), e]
theorem sC_47 {b : Nat} {u : tW} {j : Nat} (hj : j < 5) : sC b u (47 + j) = (if ((j : Nat) : Int) < u 0 0 ∧ u 0 (17 + j) ≠ 0 then some (aR 10 (u 0 (17 + j)).toNat fun q => b + 52 + (u 0 (22 + 4 * j + q)).toNat) else none) := by
  have e : 47 + j - 47 = j := by omega
  unfold sC
  rw [if_neg (show ¬ (47 + j = 0) by omega), if_neg (show ¬ (47 + j = 1) by omega), if_neg (show ¬ (47 + j = 2) by omega), if_neg (show ¬ (47 + j = 3) by omega), if_neg (show ¬ (47 + j = 4) by omega), if_neg (show ¬ (47 + j = 5) by omega), if_neg (show ¬ (47 + j = 6) by omega), if_neg (show ¬ (47 + j = 7) by omega), if_neg (show ¬ (47 + j = 8) by omega), if_neg (show ¬ (47 + j = 9) by omega), if_neg (show ¬ (47 + j < 14) by omega), if_neg (show ¬ (47 + j < 18) by omega), if_neg (show ¬ (47 + j = 18) by omega), if_neg (show ¬ (47 + j = 19) by omega), if_neg (show ¬ (47 + j < 24) by omega), if_neg (show ¬ (47 + j < 28) by omega), if_neg (show ¬ (47 + j < 32) by omega), if_neg (show ¬ (47 + j < 37) by omega), if_neg (show ¬ (47 + j < 42) by omega), if_neg (show ¬ (47 + j < 47) by omega), if_pos (show 47 + j < 52 by omega), e]
theorem sC_52 {b : Nat} {u : tW} {j : Nat} (hj : j < 20) : sC b u (52 + j) = (if ((j : Nat) : Int) < u 0 1 then some (.inr (5, [.int (iI (j : Nat)), .int (iI (u 0 (42 + j))), .int (iI (u 0 (62 + j))), .int (iI (u 0 (102 + j))), .int (iI (u 0 (122 + j))), .int (iI (u 0 (82 + j)))])) else none) := by
  have e : 52 + j - 52 = j := by omega
  unfold sC
  rw [if_neg (show ¬ (52 + j = 0) by omega), if_neg (show ¬ (52 + j = 1) by omega), if_neg (show ¬ (52 + j = 2) by omega), if_neg (show ¬ (52 + j = 3) by omega), if_neg (show ¬ (52 + j = 4) by omega), if_neg (show ¬ (52 + j = 5) by omega), if_neg (show ¬ (52 + j = 6) by omega), if_neg (show ¬ (52 + j = 7) by omega), if_neg (show ¬ (52 + j = 8) by omega), if_neg (show ¬ (52 + j = 9) by omega), if_neg (show ¬ (52 + j < 14) by omega), if_neg (show ¬ (52 + j < 18) by omega), if_neg (show ¬ (52 + j = 18) by omega), if_neg (show ¬ (52 + j = 19) by omega), if_neg (show ¬ (52 + j < 24) by omega), if_neg (show ¬ (52 + j < 28) by omega), if_neg (show ¬ (52 + j < 32) by omega), if_neg (show ¬ (52 + j < 37) by omega), if_neg (show ¬ (52 + j < 42) by omega), if_neg (show ¬ (52 + j < 47) by omega), if_neg (show ¬ (52 + j < 52) by omega), if_pos (show 52 + j < 72 by omega), e]
