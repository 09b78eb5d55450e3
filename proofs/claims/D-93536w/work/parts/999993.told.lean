/-! ===== what is told of a job: its cells ===== -/
/-- the operations told, one after another -/
def opA (t : Nat → Int) (n : Nat) : Nat → Nat → (Nat → Int × Int × Int) → Int → (Nat × (Nat → Int × Int × Int) × Int) ⊕ Int
  | 0, _, _, p => .inr p
  | j + 1, k, o, p => match opP t n p with
    | .inr q => .inr q
    | .inl (m, u, f, q) => if hrC t n q = 47 then opA t n j (k + 1) (fun i => if i = k then (m, u, f) else o i) (q + 1) else .inl (k + 1, fun i => if i = k then (m, u, f) else o i, q)
/-- the cells beside the list -/
def tjC (h : zH) (N r s : Nat) (f : Nat → Int) (k : Nat) (o : Nat → Int × Int × Int) (q : Int) : zH := fun m =>
  if m = r then some (oRd s q) else if m = N then some (oTo (N + 1) (N + 2)) else if m = N + 1 then some (aI 3 f) else
  if N + 6 ≤ m ∧ m < N + 6 + k then some (aI 3 (row3 (o (m - (N + 6))).1 (o (m - (N + 6))).2.1 (o (m - (N + 6))).2.2)) else h m
def tjH (h : zH) (N r s : Nat) (f : Nat → Int) (k : Nat) (o : Nat → Int × Int × Int) (q : Int) : zH := lH (N + 2) k k (fun i => N + 6 + i) (tjC h N r s f k o q)
section
variable {h : zH} {N r s k : Nat} {f : Nat → Int} {o : Nat → Int × Int × Int} {q : Int}
theorem tjH_r (e : r < N) : tjH h N r s f k o q r = some (oRd s q) := by
  unfold tjH
  rw [lH_o (by omega)]
  unfold tjC
  rw [if_pos rfl]
theorem tjH_J (e : r < N) : tjH h N r s f k o q N = some (oTo (N + 1) (N + 2)) := by
  unfold tjH
  rw [lH_o (by omega)]
  unfold tjC
  rw [if_neg (by omega), if_pos rfl]
theorem tjH_a (e : r < N) : tjH h N r s f k o q (N + 1) = some (aI 3 f) := by
  unfold tjH
  rw [lH_o (by omega)]
  unfold tjC
  rw [if_neg (by omega), if_neg (by omega), if_pos rfl]
theorem tjH_o {i : Nat} (e : r < N) (hi : i < k) : tjH h N r s f k o q (N + 6 + i) = some (aI 3 (row3 (o i).1 (o i).2.1 (o i).2.2)) := by
  unfold tjH
  rw [lH_o (by omega)]
  unfold tjC
  rw [if_neg (by omega), if_neg (by omega), if_neg (by omega), if_pos ⟨by omega, by omega⟩, show N + 6 + i - (N + 6) = i by omega]
theorem tjH_lo {m : Nat} (e : m < N) (e2 : m ≠ r) : tjH h N r s f k o q m = h m := by
  unfold tjH
  rw [lH_o (by omega)]
  unfold tjC
  rw [if_neg e2, if_neg (by omega), if_neg (by omega), if_neg (by omega)]
theorem tjH_top {m : Nat} (hN : zTop h N) (e : r < N) (hm : N + 6 + k ≤ m) : tjH h N r s f k o q m = none := by
  unfold tjH
  rw [lH_o (by omega)]
  unfold tjC
  rw [if_neg (by omega), if_neg (by omega), if_neg (by omega), if_neg (by omega)]
  exact hN m (by omega)
/-- one more is read -/
theorem tjH_q {q' : Int} (e : r < N) : zup (tjH h N r s f k o q) r (oRd s q') = tjH h N r s f k o q' := by
  unfold tjH
  rw [lH_up (by omega)]
  congr 1
  funext m
  unfold tjC
  by_cases c : m = r
  · subst c; rw [zup_at, if_pos rfl]
  · rw [zup_ne c, if_neg c, if_neg c]
end
