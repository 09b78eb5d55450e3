/-! ===== the component: a shop is made ===== -/
/-- a block of 72 cells -/
def cH (b : Nat) (φ : Nat → Option zC) (g : zH) : zH := fun m => if b ≤ m ∧ m < b + 72 then φ (m - b) else g m
def pu (φ : Nat → Option zC) (i : Nat) (c : zC) : Nat → Option zC := fun j => if j = i then some c else φ j
theorem sH_cH {b : Nat} {u : tW} {g : zH} : sH b u g = cH b (sC b u) g := rfl
section XCh
variable {b : Nat} {φ ψ : Nat → Option zC} {g : zH}
theorem cH_at {i : Nat} (hi : i < 72) : cH b φ g (b + i) = φ i := by
  unfold cH
  rw [if_pos ⟨by omega, by omega⟩, show b + i - b = i by omega]
theorem cH_at0 : cH b φ g b = φ 0 := cH_at (i := 0) (by omega)
theorem cH_out {m : Nat} (hm : m < b ∨ b + 72 ≤ m) : cH b φ g m = g m := by
  unfold cH
  rw [if_neg (by omega)]
theorem cH_up {i : Nat} {c : zC} (hi : i < 72) : zup (cH b φ g) (b + i) c = cH b (pu φ i c) g := by
  funext m
  by_cases e : m = b + i
  · subst e
    rw [zup_at, cH_at hi]
    unfold pu
    rw [if_pos rfl]
  · rw [zup_ne e]
    by_cases h : b ≤ m ∧ m < b + 72
    · obtain ⟨j, rfl⟩ : ∃ j, m = b + j := ⟨m - b, by omega⟩
      rw [cH_at (by omega), cH_at (by omega)]
      unfold pu
      rw [if_neg (by omega)]
    · rw [cH_out (by omega), cH_out (by omega)]
theorem cH_up0 {c : zC} : zup (cH b φ g) b c = cH b (pu φ 0 c) g := cH_up (i := 0) (by omega)
theorem cH_congr (h : ∀ i, i < 72 → φ i = ψ i) : cH b φ g = cH b ψ g := by
  funext m
  unfold cH
  by_cases h1 : b ≤ m ∧ m < b + 72
  · rw [if_pos h1, if_pos h1, h _ (by omega)]
  · rw [if_neg h1, if_neg h1]
theorem cH_new {c : zC} (hf : ∀ i, i < 72 → g (b + i) = none) : zup g b c = cH b (pu (fun _ => none) 0 c) g := by
  funext m
  by_cases e : m = b
  · subst e
    rw [zup_at, cH_at0]; rfl
  · rw [zup_ne e]
    by_cases h : b ≤ m ∧ m < b + 72
    · obtain ⟨j, rfl⟩ : ∃ j, m = b + j := ⟨m - b, by omega⟩
      rw [cH_at (by omega), hf j (by omega)]
      unfold pu
      rw [if_neg (by omega)]
    · rw [cH_out (by omega)]
end XCh
theorem all72 {P : Nat → Prop} (h0 : P 0) (h1 : P 1) (h2 : P 2) (h3 : P 3) (h4 : P 4) (h5 : P 5) (h6 : P 6) (h7 : P 7) (h8 : P 8) (h9 : P 9) (h10 : P 10) (h11 : P 11) (h12 : P 12) (h13 : P 13) (h14 : P 14) (h15 : P 15) (h16 : P 16) (h17 : P 17) (h18 : P 18) (h19 : P 19) (h20 : P 20) (h21 : P 21) (h22 : P 22) (h23 : P 23) (h24 : P 24) (h25 : P 25) (h26 : P 26) (h27 : P 27) (h28 : P 28) (h29 : P 29) (h30 : P 30) (h31 : P 31) (h32 : P 32) (h33 : P 33) (h34 : P 34) (h35 : P 35) (h36 : P 36) (h37 : P 37) (h38 : P 38) (h39 : P 39) (h40 : P 40) (h41 : P 41) (h42 : P 42) (h43 : P 43) (h44 : P 44) (h45 : P 45) (h46 : P 46) (h47 : P 47) (h48 : P 48) (h49 : P 49) (h50 : P 50) (h51 : P 51) (h52 : P 52) (h53 : P 53) (h54 : P 54) (h55 : P 55) (h56 : P 56) (h57 : P 57) (h58 : P 58) (h59 : P 59) (h60 : P 60) (h61 : P 61) (h62 : P 62) (h63 : P 63) (h64 : P 64) (h65 : P 65) (h66 : P 66) (h67 : P 67) (h68 : P 68) (h69 : P 69) (h70 : P 70) (h71 : P 71) : ∀ i, i < 72 → P i
  | 0, _ => h0
  | 1, _ => h1
  | 2, _ => h2
  | 3, _ => h3
  | 4, _ => h4
  | 5, _ => h5
  | 6, _ => h6
  | 7, _ => h7
  | 8, _ => h8
  | 9, _ => h9
  | 10, _ => h10
  | 11, _ => h11
  | 12, _ => h12
  | 13, _ => h13
  | 14, _ => h14
  | 15, _ => h15
  | 16, _ => h16
  | 17, _ => h17
  | 18, _ => h18
  | 19, _ => h19
  | 20, _ => h20
  | 21, _ => h21
  | 22, _ => h22
  | 23, _ => h23
  | 24, _ => h24
  | 25, _ => h25
  | 26, _ => h26
  | 27, _ => h27
  | 28, _ => h28
  | 29, _ => h29
  | 30, _ => h30
  | 31, _ => h31
  | 32, _ => h32
  | 33, _ => h33
  | 34, _ => h34
  | 35, _ => h35
  | 36, _ => h36
  | 37, _ => h37
  | 38, _ => h38
  | 39, _ => h39
  | 40, _ => h40
  | 41, _ => h41
  | 42, _ => h42
  | 43, _ => h43
  | 44, _ => h44
  | 45, _ => h45
  | 46, _ => h46
  | 47, _ => h47
  | 48, _ => h48
  | 49, _ => h49
  | 50, _ => h50
  | 51, _ => h51
  | 52, _ => h52
  | 53, _ => h53
  | 54, _ => h54
  | 55, _ => h55
  | 56, _ => h56
  | 57, _ => h57
  | 58, _ => h58
  | 59, _ => h59
  | 60, _ => h60
  | 61, _ => h61
  | 62, _ => h62
  | 63, _ => h63
  | 64, _ => h64
  | 65, _ => h65
  | 66, _ => h66
  | 67, _ => h67
  | 68, _ => h68
  | 69, _ => h69
  | 70, _ => h70
  | 71, _ => h71
  | n + 72, h => absurd h (by omega)
/-- the world of a new shop -/
def uNew : tW := fun f i => if f = 5 then (if i = 2 then -1 else 0) else if f = 6 then (if i = 2 then 4 else if i = 3 then 4 else 0) else 0
/-- the cells of a shop with m lists and orders -/
def iP (b m : Nat) : Nat → Option zC := fun i =>
  if i = 0 then some (.inr (2, sF b uNew)) else if i = 1 then some (oL 0 1 0) else if i = 3 then some (oL 0 1 0) else if i = 7 then some (aI 9 fun _ => 0) else
  if i = 8 then some (oL m (if m = 0 then 1 else b + 9) m) else if i = 9 then (if m = 0 then none else some (aR 10 m fun q => b + 10 + q)) else
  if 10 ≤ i ∧ i < 10 + m then some (oL 0 1 0) else
  if i = 18 then some (oL m (if m = 0 then 1 else b + 19) m) else if i = 19 then (if m = 0 then none else some (aR 10 m fun q => b + 20 + q)) else
  if 20 ≤ i ∧ i < 20 + m then some (oO (b + 24 + (i - 20)) 0) else if 24 ≤ i ∧ i < 24 + m then some (aI 5 fun _ => 0) else
  if 28 ≤ i ∧ i < 32 then some (aI 20 fun _ => 0) else none
theorem iP_4 {b : Nat} : ∀ i, i < 72 → iP b 4 i = sC b uNew i := all72 rfl rfl rfl rfl rfl rfl rfl rfl rfl rfl rfl rfl rfl rfl rfl rfl rfl rfl rfl rfl rfl rfl rfl rfl rfl rfl rfl rfl rfl rfl rfl rfl rfl rfl rfl rfl rfl rfl rfl rfl rfl rfl rfl rfl rfl rfl rfl rfl rfl rfl rfl rfl rfl rfl rfl rfl rfl rfl rfl rfl rfl rfl rfl rfl rfl rfl rfl rfl rfl rfl rfl rfl
/-- the cells before the loop -/
def iF (b : Nat) : Nat → Option zC := pu (pu (pu (pu (pu (pu (pu (pu (pu (pu (fun _ => none) 0 (.inr (2, sF b uNew))) 1 (oL 0 1 0)) 3 (oL 0 1 0)) 7 (aI 9 fun _ => 0)) 8 (oL 0 1 0)) 18 (oL 0 1 0)) 28 (aI 20 fun _ => 0)) 29 (aI 20 fun _ => 0)) 30 (aI 20 fun _ => 0)) 31 (aI 20 fun _ => 0)
theorem iF_0 {b : Nat} : ∀ i, i < 72 → iF b i = iP b 0 i := all72 rfl rfl rfl rfl rfl rfl rfl rfl rfl rfl rfl rfl rfl rfl rfl rfl rfl rfl rfl rfl rfl rfl rfl rfl rfl rfl rfl rfl rfl rfl rfl rfl rfl rfl rfl rfl rfl rfl rfl rfl rfl rfl rfl rfl rfl rfl rfl rfl rfl rfl rfl rfl rfl rfl rfl rfl rfl rfl rfl rfl rfl rfl rfl rfl rfl rfl rfl rfl rfl rfl rfl rfl
/-- one more list, one more order -/
def iN (b m : Nat) : Nat → Option zC := pu (pu (pu (pu (pu (pu (pu (iP b m) (10 + m) (oL 0 1 0)) 9 (aR 10 (m + 1) fun q => b + 10 + q)) 8 (oL ((m : Int) + 1) (b + 9) ((m : Int) + 1))) (24 + m) (aI 5 fun _ => 0)) (20 + m) (oO (b + 24 + m) 0)) 19 (aR 10 (m + 1) fun q => b + 20 + q)) 18 (oL ((m : Int) + 1) (b + 19) ((m : Int) + 1))
theorem iN_0 {b : Nat} : ∀ i, i < 72 → iN b 0 i = iP b 1 i := all72 rfl rfl rfl rfl rfl rfl rfl rfl rfl rfl rfl rfl rfl rfl rfl rfl rfl rfl rfl rfl rfl rfl rfl rfl rfl rfl rfl rfl rfl rfl rfl rfl rfl rfl rfl rfl rfl rfl rfl rfl rfl rfl rfl rfl rfl rfl rfl rfl rfl rfl rfl rfl rfl rfl rfl rfl rfl rfl rfl rfl rfl rfl rfl rfl rfl rfl rfl rfl rfl rfl rfl rfl
theorem iN_1 {b : Nat} : ∀ i, i < 72 → iN b 1 i = iP b 2 i := all72 rfl rfl rfl rfl rfl rfl rfl rfl rfl rfl rfl rfl rfl rfl rfl rfl rfl rfl rfl rfl rfl rfl rfl rfl rfl rfl rfl rfl rfl rfl rfl rfl rfl rfl rfl rfl rfl rfl rfl rfl rfl rfl rfl rfl rfl rfl rfl rfl rfl rfl rfl rfl rfl rfl rfl rfl rfl rfl rfl rfl rfl rfl rfl rfl rfl rfl rfl rfl rfl rfl rfl rfl
theorem iN_2 {b : Nat} : ∀ i, i < 72 → iN b 2 i = iP b 3 i := all72 rfl rfl rfl rfl rfl rfl rfl rfl rfl rfl rfl rfl rfl rfl rfl rfl rfl rfl rfl rfl rfl rfl rfl rfl rfl rfl rfl rfl rfl rfl rfl rfl rfl rfl rfl rfl rfl rfl rfl rfl rfl rfl rfl rfl rfl rfl rfl rfl rfl rfl rfl rfl rfl rfl rfl rfl rfl rfl rfl rfl rfl rfl rfl rfl rfl rfl rfl rfl rfl rfl rfl rfl
theorem iN_3 {b : Nat} : ∀ i, i < 72 → iN b 3 i = iP b 4 i := all72 rfl rfl rfl rfl rfl rfl rfl rfl rfl rfl rfl rfl rfl rfl rfl rfl rfl rfl rfl rfl rfl rfl rfl rfl rfl rfl rfl rfl rfl rfl rfl rfl rfl rfl rfl rfl rfl rfl rfl rfl rfl rfl rfl rfl rfl rfl rfl rfl rfl rfl rfl rfl rfl rfl rfl rfl rfl rfl rfl rfl rfl rfl rfl rfl rfl rfl rfl rfl rfl rfl rfl rfl
theorem iN_s {b m : Nat} (hm : m < 4) : ∀ i, i < 72 → iN b m i = iP b (m + 1) i := by
  rcases (by omega : m = 0 ∨ m = 1 ∨ m = 2 ∨ m = 3) with rfl | rfl | rfl | rfl
  · exact iN_0
  · exact iN_1
  · exact iN_2
  · exact iN_3
/-- a list whose entries lie one behind the other grows -/
theorem stdAdd {H : zH} {L a B k : Nat} {c : Int} {f1 : Nat → Nat} (hL : H L = some (oL c (if k = 0 then 1 else a) k)) (ha : k ≠ 0 → H a = some (aR 10 k fun q => B + q)) (hf : k = 0 → H a = none) (h1 : H 1 = some (aR 0 0 f1)) (hx : zOb H (B + k)) (k10 : k < 10) (hL8 : 1000 ≤ L) (ha8 : 1000 ≤ a) :
    zMet yJ2_add (ws_ yJ2_add cJ2_add 2 (some .boolean)) 7 [.ref L, .ref (B + k)] H (zRet (.int (iI 1)) (zup (zup H a (aR 10 (k + 1) fun q => B + q)) L (oL (c + 1) a ((k : Int) + 1)))) 1 22 := by
  have ec : aR 10 (k + 1) (fun i => if i = k then B + k else B + i) = aR 10 (k + 1) fun q => B + q := aR_congr rfl fun i hi => by
    by_cases z : i = k
    · rw [if_pos z, z]
    · rw [if_neg z]
  by_cases z0 : k = 0
  · subst z0
    have h9 := jl_addE (L := L) (nm := a) (x := B + 0) hL h1 hx (hf rfl) hL8 ha8
    rw [show aR 10 1 (fun _ => B + 0) = aR 10 (0 + 1) (fun q => B + q) from aR_congr rfl fun i hi => by rw [show i = 0 by omega]] at h9
    exact h9
  · rw [if_neg z0] at hL
    have h9 := jl_addA (L := L) (a := a) hL (ha z0) (by omega) (by omega) hx hL8 ha8 1 22
    rw [ec] at h9
    exact h9
