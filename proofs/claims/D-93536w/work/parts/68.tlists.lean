/-! ===== lists of one's own: at the names L .. L + 3 ===== -/
def lA (L n : Nat) : Nat := if n = 0 then 1 else if n ≤ 10 then L + 1 else if n ≤ 15 then L + 2 else L + 3
def lH (L : Nat) (c : Int) (n : Nat) (f : Nat → Nat) (g : zH) : zH := fun m =>
  if m = L then some (oL c (lA L n) n) else
  if m = L + 1 then (if n = 0 then none else some (aR 10 (min n 10) f)) else
  if m = L + 2 then (if n ≤ 10 then none else some (aR 15 (min n 15) f)) else
  if m = L + 3 then (if n ≤ 15 then none else some (aR 22 (min n 22) f)) else g m
section XTL
variable {L : Nat} {c : Int} {n : Nat} {f : Nat → Nat} {g : zH}
theorem lH_0 : lH L c n f g L = some (oL c (lA L n) n) := by unfold lH; rw [if_pos rfl]
theorem lH_1 : lH L c n f g (L + 1) = if n = 0 then none else some (aR 10 (min n 10) f) := by unfold lH; rw [if_neg (by omega), if_pos rfl]
theorem lH_2 : lH L c n f g (L + 2) = if n ≤ 10 then none else some (aR 15 (min n 15) f) := by unfold lH; rw [if_neg (by omega), if_neg (by omega), if_pos rfl]
theorem lH_3 : lH L c n f g (L + 3) = if n ≤ 15 then none else some (aR 22 (min n 22) f) := by unfold lH; rw [if_neg (by omega), if_neg (by omega), if_neg (by omega), if_pos rfl]
theorem lH_o {m : Nat} (h : m < L ∨ L + 4 ≤ m) : lH L c n f g m = g m := by unfold lH; rw [if_neg (by omega), if_neg (by omega), if_neg (by omega), if_neg (by omega)]
theorem lH_a (hn : 0 < n) (h22 : n ≤ 22) : ∃ N, lH L c n f g (lA L n) = some (aR N n f) ∧ n ≤ N ∧ N ≤ 22 := by
  unfold lA
  rw [if_neg (by omega)]
  by_cases h1 : n ≤ 10
  · rw [if_pos h1, lH_1, if_neg (by omega), show min n 10 = n by omega]
    exact ⟨10, rfl, h1, by omega⟩
  · rw [if_neg h1]
    by_cases h2 : n ≤ 15
    · rw [if_pos h2, lH_2, if_neg h1, show min n 15 = n by omega]
      exact ⟨15, rfl, h2, by omega⟩
    · rw [if_neg h2, lH_3, if_neg h2, show min n 22 = n by omega]
      exact ⟨22, rfl, by omega, by omega⟩
theorem lH_up {m : Nat} {x : zC} (h : m < L ∨ L + 4 ≤ m) : zup (lH L c n f g) m x = lH L c n f (zup g m x) := by
  funext q
  by_cases e : q = m
  · subst e
    rw [zup_at, lH_o h, zup_at]
  · rw [zup_ne e]
    by_cases h1 : q < L ∨ L + 4 ≤ q
    · rw [lH_o h1, lH_o h1, zup_ne e]
    · rcases (by omega : q = L ∨ q = L + 1 ∨ q = L + 2 ∨ q = L + 3) with rfl | rfl | rfl | rfl
      · rw [lH_0, lH_0]
      · rw [lH_1, lH_1]
      · rw [lH_2, lH_2]
      · rw [lH_3, lH_3]
theorem lH_congr {f' : Nat → Nat} (hf : ∀ i, i < n → f i = f' i) : lH L c n f g = lH L c n f' g := by
  funext m
  unfold lH
  rw [aR_congr (n := 10) (g := f') rfl (fun i hi => hf i (by omega)), aR_congr (n := 15) (g := f') rfl (fun i hi => hf i (by omega)), aR_congr (n := 22) (g := f') rfl (fun i hi => hf i (by omega))]
theorem lH_e {c' : Int} {n' : Nat} {f' : Nat → Nat} {h : zH} (e0 : h L = some (oL c' (lA L n') n')) (e1 : h (L + 1) = if n' = 0 then none else some (aR 10 (min n' 10) f')) (e2 : h (L + 2) = if n' ≤ 10 then none else some (aR 15 (min n' 15) f')) (e3 : h (L + 3) = if n' ≤ 15 then none else some (aR 22 (min n' 22) f')) (eo : ∀ m, m < L ∨ L + 4 ≤ m → h m = g m) : h = lH L c' n' f' g := by
  funext m
  by_cases h1 : m < L ∨ L + 4 ≤ m
  · rw [lH_o h1, eo m h1]
  · rcases (by omega : m = L ∨ m = L + 1 ∨ m = L + 2 ∨ m = L + 3) with rfl | rfl | rfl | rfl
    · rw [lH_0, e0]
    · rw [lH_1, e1]
    · rw [lH_2, e2]
    · rw [lH_3, e3]
theorem jl_sizeL : zMet yJ2_size (ws_ yJ2_size cJ2_size 1 (some .int)) 1 [.ref L] (lH L c n f g) (zRet (.int (iI n)) (lH L c n f g)) 0 0 := jl_size lH_0
theorem jl_getL {i : Int} (hi : 0 ≤ i ∧ i < (n : Int)) (h22 : n ≤ 22) : zG2 L i (lH L c n f g) (f i.toNat) := by
  obtain ⟨N, h1, h2, h3⟩ := lH_a (L := L) (c := c) (n := n) (f := f) (g := g) (by omega) h22
  exact jl_get lH_0 h1 h2 (by omega) hi.1 hi.2 rfl
theorem jl_addL {x : Nat} {f1 : Nat → Nat} {c7 : zC} (hL : 1000 ≤ L) (hn : n < 22) (h1 : g 1 = some (aR 0 0 f1)) (h7 : g 7 = some c7) (hx : zOb (lH L c n f g) x) (he : ∀ i, i < n → zOb (lH L c n f g) (f i)) : zMet yJ2_add (ws_ yJ2_add cJ2_add 2 (some .boolean)) 7 [.ref L, .ref x] (lH L c n f g) (zRet (.int (iI 1)) (lH L (c + 1) (n + 1) (fun i => if i = n then x else f i) g)) 1 22 := by
  have h1' : lH L c n f g 1 = some (aR 0 0 f1) := by rw [lH_o (by omega)]; exact h1
  have h7' : lH L c n f g 7 = some c7 := by rw [lH_o (by omega)]; exact h7
  by_cases n0 : n = 0
  · subst n0
    have h9 := jl_addE (h := lH L c 0 f g) (L := L) (nm := L + 1) (x := x) (c := c) lH_0 h1' hx (by rw [lH_1, if_pos rfl]) hL (by omega)
    have e : zup (zup (lH L c 0 f g) (L + 1) (aR 10 1 fun _ => x)) L (oL (c + 1) (L + 1) 1) = lH L (c + 1) (0 + 1) (fun i => if i = 0 then x else f i) g := by
      refine lH_e ?_ ?_ ?_ ?_ (fun m hm => ?_)
      · rw [zup_at]; rfl
      · rw [zup_ne (by omega), zup_at, if_neg (by omega)]
        exact congrArg some (aR_congr rfl (fun i hi => by rw [if_pos (by omega)]))
      · rw [zup_ne (by omega), zup_ne (by omega), lH_2]; rfl
      · rw [zup_ne (by omega), zup_ne (by omega), lH_3]; rfl
      · rw [zup_ne (by omega), zup_ne (by omega), lH_o hm]
    rw [e] at h9
    exact h9
  · by_cases hf : n = 10 ∨ n = 15
    · have ha : lH L c n f g (lA L n) = some (aR n n f) := by
        rcases hf with rfl | rfl
        · show lH L c 10 f g (L + 1) = _
          rw [lH_1, if_neg (by omega)]; rfl
        · show lH L c 15 f g (L + 2) = _
          rw [lH_2, if_neg (by omega)]; rfl
      have hfr : lH L c n f g (lA L (n + 1)) = none := by
        rcases hf with rfl | rfl
        · show lH L c 10 f g (L + 2) = _
          rw [lH_2, if_pos (by omega)]
        · show lH L c 15 f g (L + 3) = _
          rw [lH_3, if_pos (by omega)]
      have h9 := jl_addF (h := lH L c n f g) (L := L) (nm := lA L (n + 1)) (x := x) lH_0 ha h1' h7' hf he hx hfr hL (by unfold lA; split <;> (try split) <;> (try split) <;> omega) (by unfold lA; split <;> (try split) <;> (try split) <;> omega)
      have e : zup (zup (lH L c n f g) (lA L (n + 1)) (aR (n + n / 2) (n + 1) fun i => if i = n then x else f i)) L (oL (c + 1) (lA L (n + 1)) (n + 1)) = lH L (c + 1) (n + 1) (fun i => if i = n then x else f i) g := by
        rcases hf with rfl | rfl
        · refine lH_e ?_ ?_ ?_ ?_ (fun m hm => ?_)
          · rw [zup_at]; rfl
          · rw [zup_ne (by omega), zup_ne (by show L + 1 ≠ L + 2; omega), lH_1, if_neg (by omega), if_neg (by omega)]
            exact congrArg some (aR_congr rfl (fun i hi => by rw [if_neg (by omega)]))
          · rw [zup_ne (by omega), show lA L (10 + 1) = L + 2 from rfl, zup_at]; rfl
          · rw [zup_ne (by omega), zup_ne (by show L + 3 ≠ L + 2; omega), lH_3]; rfl
          · rw [zup_ne (by omega), zup_ne (by show m ≠ L + 2; omega), lH_o hm]
        · refine lH_e ?_ ?_ ?_ ?_ (fun m hm => ?_)
          · rw [zup_at]; rfl
          · rw [zup_ne (by omega), zup_ne (by show L + 1 ≠ L + 3; omega), lH_1, if_neg (by omega), if_neg (by omega)]
            exact congrArg some (aR_congr rfl (fun i hi => by rw [if_neg (by omega)]))
          · rw [zup_ne (by omega), zup_ne (by show L + 2 ≠ L + 3; omega), lH_2, if_neg (by omega), if_neg (by omega)]
            exact congrArg some (aR_congr rfl (fun i hi => by rw [if_neg (by omega)]))
          · rw [zup_ne (by omega), show lA L (15 + 1) = L + 3 from rfl, zup_at]; rfl
          · rw [zup_ne (by omega), zup_ne (by show m ≠ L + 3; omega), lH_o hm]
      rw [e] at h9
      exact h9
    · have hlt : n < 10 ∨ (10 < n ∧ n < 15) ∨ 15 < n := by omega
      have hA : lA L (n + 1) = lA L n := by
        unfold lA
        rw [if_neg (by omega), if_neg n0]
        rcases hlt with h | h | h
        · rw [if_pos (show n + 1 ≤ 10 by omega), if_pos (show n ≤ 10 by omega)]
        · rw [if_neg (show ¬ n + 1 ≤ 10 by omega), if_neg (show ¬ n ≤ 10 by omega), if_pos (show n + 1 ≤ 15 by omega), if_pos (show n ≤ 15 by omega)]
        · rw [if_neg (show ¬ n + 1 ≤ 10 by omega), if_neg (show ¬ n ≤ 10 by omega), if_neg (show ¬ n + 1 ≤ 15 by omega), if_neg (show ¬ n ≤ 15 by omega)]
      have key : ∃ N, lH L c n f g (lA L n) = some (aR N n f) ∧ n < N ∧ N ≤ 22 ∧ zup (zup (lH L c n f g) (lA L n) (aR N (n + 1) fun i => if i = n then x else f i)) L (oL (c + 1) (lA L n) (n + 1)) = lH L (c + 1) (n + 1) (fun i => if i = n then x else f i) g := by
        rcases hlt with h | h | h
        · have ea : lA L n = L + 1 := by unfold lA; rw [if_neg n0, if_pos (by omega)]
          refine ⟨10, by rw [ea, lH_1, if_neg n0, show min n 10 = n by omega], h, by omega, lH_e ?_ ?_ ?_ ?_ (fun m hm => ?_)⟩
          · rw [zup_at, hA]; rfl
          · rw [zup_ne (by omega), ea, zup_at, if_neg (by omega), show min (n + 1) 10 = n + 1 by omega]
          · rw [zup_ne (by omega), ea, zup_ne (by omega), lH_2, if_pos (by omega), if_pos (by omega)]
          · rw [zup_ne (by omega), ea, zup_ne (by omega), lH_3, if_pos (by omega), if_pos (by omega)]
          · rw [zup_ne (by omega), ea, zup_ne (by omega), lH_o hm]
        · have ea : lA L n = L + 2 := by unfold lA; rw [if_neg n0, if_neg (by omega), if_pos (by omega)]
          refine ⟨15, by rw [ea, lH_2, if_neg (by omega), show min n 15 = n by omega], by omega, by omega, lH_e ?_ ?_ ?_ ?_ (fun m hm => ?_)⟩
          · rw [zup_at, hA]; rfl
          · rw [zup_ne (by omega), ea, zup_ne (by omega), lH_1, if_neg (by omega), if_neg (by omega)]
            exact congrArg some (aR_congr (by omega) (fun i hi => by rw [if_neg (by omega)]))
          · rw [zup_ne (by omega), ea, zup_at, if_neg (by omega), show min (n + 1) 15 = n + 1 by omega]
          · rw [zup_ne (by omega), ea, zup_ne (by omega), lH_3, if_pos (by omega), if_pos (by omega)]
          · rw [zup_ne (by omega), ea, zup_ne (by omega), lH_o hm]
        · have ea : lA L n = L + 3 := by unfold lA; rw [if_neg n0, if_neg (by omega), if_neg (by omega)]
          refine ⟨22, by rw [ea, lH_3, if_neg (by omega), show min n 22 = n by omega], by omega, by omega, lH_e ?_ ?_ ?_ ?_ (fun m hm => ?_)⟩
          · rw [zup_at, hA]; rfl
          · rw [zup_ne (by omega), ea, zup_ne (by omega), lH_1, if_neg (by omega), if_neg (by omega)]
            exact congrArg some (aR_congr (by omega) (fun i hi => by rw [if_neg (by omega)]))
          · rw [zup_ne (by omega), ea, zup_ne (by omega), lH_2, if_neg (by omega), if_neg (by omega)]
            exact congrArg some (aR_congr (by omega) (fun i hi => by rw [if_neg (by omega)]))
          · rw [zup_ne (by omega), ea, zup_at, if_neg (by omega), show min (n + 1) 22 = n + 1 by omega]
          · rw [zup_ne (by omega), ea, zup_ne (by omega), lH_o hm]
      obtain ⟨N, k1, k2, k3, k4⟩ := key
      have h9 := jl_addA (h := lH L c n f g) (L := L) (a := lA L n) (N := N) (k := n) (x := x) lH_0 k1 k2 (by omega) hx hL (by unfold lA; rw [if_neg n0]; split <;> (try split) <;> omega) 1 22
      rw [k4] at h9
      exact h9
end XTL
theorem sH_lH {b L : Nat} {u : tW} {c : Int} {n : Nat} {f : Nat → Nat} {g : zH} (h : L + 4 ≤ b ∨ b + 72 ≤ L) : sH b u (lH L c n f g) = lH L c n f (sH b u g) := by
  refine lH_e ?_ ?_ ?_ ?_ (fun m hm => ?_)
  · rw [sH_out (by omega), lH_0]
  · rw [sH_out (by omega), lH_1]
  · rw [sH_out (by omega), lH_2]
  · rw [sH_out (by omega), lH_3]
  · unfold sH
    rw [lH_o hm]
