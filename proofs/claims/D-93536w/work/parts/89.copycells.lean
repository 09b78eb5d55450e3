/-! ===== copying a shop: the cells ===== -/
theorem sH_comm {b b2 : Nat} {u u2 : tW} {g : zH} (h : b + 72 ≤ b2 ∨ b2 + 72 ≤ b) : sH b u (sH b2 u2 g) = sH b2 u2 (sH b u g) := by
  funext m
  unfold sH
  by_cases h1 : b ≤ m ∧ m < b + 72
  · rw [if_pos h1, if_neg (by omega), if_pos h1]
  · rw [if_neg h1, if_neg h1]
theorem Am.sh {b : Nat} {u : tW} {g : zH} (h : Am g) (hb : 1000 ≤ b) : Am (sH b u g) := h.ext (N := b) (fun m hm => sH_out (by omega)) hb
/-- the world of the copy -/
def wCp (v u2 : tW) : tW := fun f => if f = 0 then u2 0 else if f = 6 then (fun i => if 4 ≤ i ∧ i < 8 then v 6 i + 1 else v 6 i) else if f = 7 then (fun m => if u2 0 (151 + m) = 0 then 0 else 1) else if f = 8 then u2 8 else v f
theorem wCp_0 {v u2 : tW} : wCp v u2 0 = u2 0 := rfl
theorem wCp_6 {v u2 : tW} {i : Nat} : wCp v u2 6 i = if 4 ≤ i ∧ i < 8 then v 6 i + 1 else v 6 i := rfl
theorem wCp_7 {v u2 : tW} {m : Nat} : wCp v u2 7 m = if u2 0 (151 + m) = 0 then 0 else 1 := rfl
theorem wCp_8 {v u2 : tW} : wCp v u2 8 = u2 8 := rfl
theorem wCp_f {v u2 : tW} {f : Nat} (h : f ≠ 0 ∧ f ≠ 6 ∧ f ≠ 7 ∧ f ≠ 8) : wCp v u2 f = v f := by unfold wCp; rw [if_neg h.1, if_neg h.2.1, if_neg h.2.2.1, if_neg h.2.2.2]
/-- the first m machines are copied -/
def cpM (m i : Nat) : Prop := i = 7 ∨ (10 ≤ i ∧ i < 10 + m) ∨ (14 ≤ i ∧ i < 14 + m) ∨ (20 ≤ i ∧ i < 20 + m) ∨ (24 ≤ i ∧ i < 24 + m)
noncomputable def cpP (b : Nat) (v t : tW) (m : Nat) : Nat → Option zC := fun i => @ite _ (cpM m i) (Classical.propDecidable _) (sC b t i) (sC b v i)
theorem cpP_y {b : Nat} {v t : tW} {m i : Nat} (h : cpM m i) : cpP b v t m i = sC b t i := @if_pos _ (Classical.propDecidable _) h _ _ _
theorem cpP_n {b : Nat} {v t : tW} {m i : Nat} (h : ¬ cpM m i) : cpP b v t m i = sC b v i := @if_neg _ (Classical.propDecidable _) h _ _ _
/-- at the end the copy is whole -/
theorem cpP_4 {b : Nat} {v u2 : tW} (hs : WfA (u2 0)) (h : cpO (u2 0) (v 0) (u2 0 1)) : ∀ i, i < 72 → cpP b v (wCp v u2) 4 i = sC b (wCp v u2) i := by
  intro i hi
  by_cases c : cpM 4 i
  · exact cpP_y c
  rw [cpP_n c]
  have hf := fun (j : Int) => cpO.fin hs h (j := j)
  obtain ⟨h1, h2, h3, h4, h5, h6, h7⟩ := h
  unfold cpM at c
  have h20 := hs.2.1.1
  have h05 := hs.1.1
  by_cases c1 : i < 32
  · refine (sC_eq (u := v) (w := wCp v u2) hi (by rw [wCp_0, h1]) (by rw [wCp_0, h2]) (fun _ j _ => by rw [wCp_f (by decide)]) (fun j => ?_) (fun e => by omega) (fun m hm e => by omega) (fun m hm e => by omega) (fun m hm e => by omega) (fun m hm e => by omega) (fun f hf e => by rw [wCp_f ⟨by omega, by omega, by omega, by omega⟩]) (fun j hj e => by omega) (fun j hj e => by omega) (fun j hj e => by omega) (fun k hk e => by omega)).symm
    by_cases z : 4 ≤ j ∧ j < 8
    · right; omega
    · left; rw [wCp_6, if_neg z]
  have n6 : ∀ j, wCp v u2 6 (8 + j) = v 6 (8 + j) := fun j => by rw [wCp_6, if_neg (by omega)]
  rcases sReg hi with z | ⟨j, hj, rfl⟩ | ⟨j, hj, rfl⟩ | z | ⟨j, hj, rfl⟩ | ⟨j, hj, rfl⟩ | ⟨j, hj, rfl⟩ | ⟨j, hj, rfl⟩ | ⟨j, hj, rfl⟩ | ⟨j, hj, rfl⟩ | ⟨j, hj, rfl⟩ | ⟨j, hj, rfl⟩
  · omega
  · omega
  · omega
  · omega
  · omega
  · omega
  · omega
  · rw [sC_32 hj, sC_32 hj, wCp_0, h1]
  · rw [sC_37 hj, sC_37 hj, wCp_0, h1]
    by_cases z : (j : Int) < u2 0 0
    · rw [if_pos z, if_pos z]
      refine congrArg some (aI_congr fun q hq => ?_)
      have a := h5 j (by omega) z
      have e2 : v 0 (2 + j) = u2 0 (2 + j) := by have := a.1; unfold sRel at this; rw [show (2 + (j : Int)).toNat = 2 + j by omega] at this; exact this
      have e7 : v 0 (7 + j) = u2 0 (7 + j) := by have := a.2.1; unfold sDue at this; rw [show (7 + (j : Int)).toNat = 7 + j by omega] at this; exact this
      have e12 : v 0 (12 + j) = u2 0 (12 + j) := by have := a.2.2; unfold sWt at this; rw [show (12 + (j : Int)).toNat = 12 + j by omega] at this; exact this
      rcases (by omega : q = 0 ∨ q = 1 ∨ q = 2) with rfl | rfl | rfl
      · exact e2
      · exact e7
      · exact e12
    · rw [if_neg z, if_neg z]
  · rw [sC_42 hj, sC_42 hj, wCp_0, h1]
    by_cases z : (j : Int) < u2 0 0
    · have a := (hf j (by omega) z).1
      have e : v 0 (17 + j) = u2 0 (17 + j) := by unfold sLen at a; rw [show (17 + (j : Int)).toNat = 17 + j by omega] at a; exact a
      rw [if_pos z, if_pos z, n6, e]
    · rw [if_neg z, if_neg z]
  · rw [sC_47 hj, sC_47 hj, wCp_0, h1]
    by_cases z : (j : Int) < u2 0 0
    · have a := hf j (by omega) z
      have e : v 0 (17 + j) = u2 0 (17 + j) := by have a := a.1; unfold sLen at a; rw [show (17 + (j : Int)).toNat = 17 + j by omega] at a; exact a
      rw [e]
      by_cases z2 : u2 0 (17 + j) = 0
      · rw [if_neg (fun q => q.2 z2), if_neg (fun q => q.2 z2)]
      · rw [if_pos ⟨z, z2⟩, if_pos ⟨z, z2⟩]
        refine congrArg some (aR_congr rfl fun q hq => ?_)
        have a2 := a.2 q (by omega) (by unfold sLen; rw [show (17 + (j : Int)).toNat = 17 + j by omega]; omega)
        unfold sSeq at a2
        rw [show (22 + 4 * (j : Int) + q).toNat = 22 + 4 * j + q by omega] at a2
        rw [a2]
    · rw [if_neg (fun q => z q.1), if_neg (fun q => z q.1)]
  · rw [sC_52 hj, sC_52 hj, wCp_0, h2]
    by_cases z : (j : Int) < u2 0 1
    · have a := h6 j (by omega) z
      unfold sJb sMc sDu sFa sIx at a
      rw [show (42 + (j : Int)).toNat = 42 + j by omega, show (62 + (j : Int)).toNat = 62 + j by omega, show (82 + (j : Int)).toNat = 82 + j by omega, show (102 + (j : Int)).toNat = 102 + j by omega, show (122 + (j : Int)).toNat = 122 + j by omega] at a
      rw [if_pos z, if_pos z, a.1, a.2.1, a.2.2.1, a.2.2.2.1, a.2.2.2.2]
    · rw [if_neg z, if_neg z]
/-- one more machine -/
theorem cpP_s {b : Nat} {v t : tW} {m : Nat} {φ : Nat → Option zC} (hm : m < 4) (h1 : φ (10 + m) = sC b t (10 + m)) (h2 : φ (14 + m) = sC b t (14 + m)) (h3 : φ (20 + m) = sC b t (20 + m)) (h4 : φ (24 + m) = sC b t (24 + m)) (ho : ∀ i, i ≠ 10 + m → i ≠ 14 + m → i ≠ 20 + m → i ≠ 24 + m → φ i = cpP b v t m i) : ∀ i, i < 72 → φ i = cpP b v t (m + 1) i := by
  intro i _
  by_cases c : i = 10 + m ∨ i = 14 + m ∨ i = 20 + m ∨ i = 24 + m
  · rw [cpP_y (by unfold cpM; omega)]
    rcases c with rfl | rfl | rfl | rfl
    · exact h1
    · exact h2
    · exact h3
    · exact h4
  · rw [ho i (by omega) (by omega) (by omega) (by omega)]
    by_cases c2 : cpM m i
    · rw [cpP_y c2, cpP_y (by unfold cpM at c2 ⊢; omega)]
    · rw [cpP_n c2, cpP_n (by unfold cpM at c2 ⊢; omega)]
