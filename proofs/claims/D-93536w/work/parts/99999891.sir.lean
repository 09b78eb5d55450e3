/-! ===== what a row keeps when numbers of jobs, durations, setup times, breakdowns change ===== -/
theorem SIr.chg {s s' : Nat → Int} (h : SIr s) (e : ∀ i : Nat, i = 0 ∨ i = 1 ∨ (17 ≤ i ∧ i < 82) ∨ (102 ≤ i ∧ i < 142) ∨ (179 ≤ i ∧ i < 203) → s' i = s i)
    (hv : ∀ j : Int, 0 ≤ j → j < s 0 → (0 ≤ sRel s' j ∧ sRel s' j ≤ 99) ∧ (0 ≤ sDue s' j ∧ sDue s' j ≤ 200) ∧ (0 ≤ sWt s' j ∧ sWt s' j ≤ 9))
    (hd : ∀ k : Int, 0 ≤ k → k < s 1 → 1 ≤ sDu s' k ∧ sDu s' k ≤ 30) (hT : WfT s') (hB : WfB s') : SIr s' := by
  obtain ⟨⟨hJ, hK, hS, hD, -, -⟩, hO, ⟨r, hr⟩, hM⟩ := h
  have e0 := e 0 (by omega)
  have e1 := e 1 (by omega)
  have h5 := hJ.1
  have h20 := hK.1
  have ln : ∀ j : Int, 0 ≤ j → j < 5 → sLen s' j = sLen s j := fun j a b => e _ (by omega)
  have sq : ∀ j i : Int, 0 ≤ j → j < 5 → 0 ≤ i → i < 4 → sSeq s' j i = sSeq s j i := fun j i a b c d => e _ (by omega)
  have jb : ∀ k : Int, 0 ≤ k → k < 20 → sJb s' k = sJb s k := fun k a b => e _ (by omega)
  have mc : ∀ k : Int, 0 ≤ k → k < 20 → sMc s' k = sMc s k := fun k a b => e _ (by omega)
  have fa : ∀ k : Int, 0 ≤ k → k < 20 → sFa s' k = sFa s k := fun k a b => e _ (by omega)
  have ix : ∀ k : Int, 0 ≤ k → k < 20 → sIx s' k = sIx s k := fun k a b => e _ (by omega)
  have on : ∀ m : Int, 0 ≤ m → m ≤ 3 → sOn s' m = sOn s m := fun m a b => e _ (by omega)
  have or : ∀ m p : Int, 0 ≤ m → m ≤ 3 → 0 ≤ p → p < 5 → sOr s' m p = sOr s m p := fun m p a b c d => e _ (by omega)
  have bf : ∀ k : Int, 0 ≤ k → k < s 1 → sBef s' k = sBef s k := fun k k0 k1 => by
    obtain ⟨a1, a2, a3, a4, a5, a6⟩ := hK.2 k k0 k1
    have hl := (hJ.2 _ a1.1 a1.2).2.2.2
    unfold sBef
    rw [ix k k0 (by omega), jb k k0 (by omega)]
    by_cases c : sIx s k = 0
    · rw [if_pos c, if_pos c]
    · rw [if_neg c, if_neg c, sq _ _ a1.1 (by omega) (by omega) (by omega)]
  have ah : ∀ (o : Nat → Int) (k : Int), 0 ≤ k → k < s 1 → sAh s' o k = sAh s o k := fun o k k0 k1 => by
    obtain ⟨a1, a2, a3, a4, a5, a6⟩ := hK.2 k k0 k1
    have ps : sPos s' k = sPos s k := by
      unfold sPos
      rw [mc k k0 (by omega), or _ 0 a2.1 a2.2 (by omega) (by omega), or _ 1 a2.1 a2.2 (by omega) (by omega), or _ 2 a2.1 a2.2 (by omega) (by omega), or _ 3 a2.1 a2.2 (by omega) (by omega)]
    have p5 := (hO.pos ⟨k0, k1⟩ a2).1.1
    unfold sAh
    rw [ps, mc k k0 (by omega)]
    by_cases c : sPos s k = 0
    · rw [if_pos c, if_pos c]
    · rw [or _ _ a2.1 a2.2 (by omega) (by omega)]
  refine ⟨⟨⟨by rw [e0]; exact h5, fun j j0 j1 => ?_⟩, ⟨by rw [e1]; exact h20, fun k k0 k1 => ?_⟩, fun j i j0 j1 i0 i1 => ?_, fun k l k0 k1 l0 l1 => ?_, hT, hB⟩, fun m m0 m1 => ?_, ⟨r, fun k k0 k1 => ?_⟩, fun j a c j0 j1 a0 ac c1 => ?_⟩
  · rw [e0] at j1
    obtain ⟨a1, a2, a3⟩ := hv j j0 j1
    exact ⟨a1, a2, a3, by rw [ln j j0 (by omega)]; exact (hJ.2 j j0 j1).2.2.2⟩
  · rw [e1] at k1
    obtain ⟨a1, a2, a3, a4, a5, a6⟩ := hK.2 k k0 k1
    have hl := (hJ.2 _ a1.1 a1.2).2.2.2
    rw [jb k k0 (by omega), e0, mc k k0 (by omega), fa k k0 (by omega), ix k k0 (by omega), ln _ a1.1 (by omega), sq _ _ a1.1 (by omega) (by omega) (by omega)]
    exact ⟨a1, a2, hd k k0 k1, a4, a5, a6⟩
  · rw [e0] at j1
    rw [ln j j0 (by omega)] at i1
    have hl := (hJ.2 j j0 j1).2.2.2
    have a := hS j i j0 j1 i0 i1
    rw [sq j i j0 (by omega) i0 (by omega), e1, jb _ a.1.1 (by omega), ix _ a.1.1 (by omega)]
    exact a
  · rw [e1] at k1 l1
    rw [jb k k0 (by omega), jb l l0 (by omega), mc k k0 (by omega), mc l l0 (by omega)]
    exact hD k l k0 k1 l0 l1
  · obtain ⟨b1, b2, b3, b4⟩ := hO m m0 m1
    rw [on m m0 m1]
    refine ⟨b1, fun p p0 p1 => ?_, fun p q p0 p1 q0 q1 => ?_, fun k k0 k1 hk => ?_⟩
    · have b := b2 p p0 p1
      rw [or m p m0 m1 p0 (by omega), e1, mc _ b.1.1 (by omega)]
      exact b
    · rw [or m p m0 m1 p0 (by omega), or m q m0 m1 q0 (by omega)]
      exact b3 p q p0 p1 q0 q1
    · rw [e1] at k1
      rw [mc k k0 (by omega)] at hk
      obtain ⟨p, p0, p1, p2⟩ := b4 k k0 k1 hk
      exact ⟨p, p0, p1, by rw [or m p m0 m1 p0 (by omega)]; exact p2⟩
  · rw [e1] at k1
    rw [bf k k0 k1, ah _ k k0 k1]
    exact hr k k0 k1
  · rw [e0] at j1
    rw [ln j j0 (by omega)] at c1
    have hl := (hJ.2 j j0 j1).2.2.2
    rw [sq j a j0 (by omega) a0 (by omega), sq j c j0 (by omega) (by omega) (by omega)]
    exact hM j a c j0 j1 a0 ac c1
section XS1
variable {s : Nat → Int}
theorem SIr.val (h : SIr s) {j a v : Int} (hj : 0 ≤ j ∧ j < s 0) (ha : 0 ≤ a ∧ a ≤ 2) (hv : jpOk a v) : SIr (sup s (2 + 5 * a + j).toNat v) := by
  have h5 := h.1.1.1
  have n : ∀ i : Nat, i ≠ (2 + 5 * a + j).toNat → sup s (2 + 5 * a + j).toNat v i = s i := fun i hi => sup_n hi
  refine h.chg (fun i hi => n i (by omega)) (fun j' j0 j1 => ?_) (fun k k0 k1 => ?_) (fun c c0 c1 => ?_) (fun m m0 m1 => ?_)
  · obtain ⟨b1, b2, b3, -⟩ := h.1.1.2 j' j0 j1
    unfold jpOk at hv
    refine ⟨?_, ?_, ?_⟩
    · by_cases c : (2 + j').toNat = (2 + 5 * a + j).toNat
      · unfold sRel; rw [c, sup_s]; rw [if_pos (by omega)] at hv; exact hv
      · unfold sRel; rw [n _ c]; exact b1
    · by_cases c : (7 + j').toNat = (2 + 5 * a + j).toNat
      · unfold sDue; rw [c, sup_s]; rw [if_neg (by omega), if_pos (by omega)] at hv; exact hv
      · unfold sDue; rw [n _ c]; exact b2
    · by_cases c : (12 + j').toNat = (2 + 5 * a + j).toNat
      · unfold sWt; rw [c, sup_s]; rw [if_neg (by omega), if_neg (by omega)] at hv; exact hv
      · unfold sWt; rw [n _ c]; exact b3
  · unfold sDu; rw [n _ (by omega)]; exact (h.1.2.1.2 k k0 k1).2.2.1
  · rw [n _ (by omega)]; exact h.1.2.2.2.2.1 c c0 c1
  · have b := h.1.2.2.2.2.2 m m0 m1
    unfold sBn sBf sBl
    rw [n _ (by omega)]
    refine ⟨b.1, fun i i0 i1 => ?_⟩
    rw [n _ (by omega), n _ (by omega)]
    exact b.2 i i0 i1
theorem SIr.dur (h : SIr s) {k v : Int} (hk : 0 ≤ k ∧ k < s 1) (hv : 1 ≤ v ∧ v ≤ 30) : SIr (sup s (82 + k).toNat v) := by
  have h5 := h.1.1.1
  have h20 := h.1.2.1.1
  have n : ∀ i : Nat, i ≠ (82 + k).toNat → sup s (82 + k).toNat v i = s i := fun i hi => sup_n hi
  refine h.chg (fun i hi => n i (by omega)) (fun j' j0 j1 => ?_) (fun k' k0 k1 => ?_) (fun c c0 c1 => ?_) (fun m m0 m1 => ?_)
  · obtain ⟨b1, b2, b3, -⟩ := h.1.1.2 j' j0 j1
    unfold sRel sDue sWt
    rw [n _ (by omega), n _ (by omega), n _ (by omega)]
    exact ⟨b1, b2, b3⟩
  · by_cases c : (82 + k').toNat = (82 + k).toNat
    · unfold sDu; rw [c, sup_s]; exact hv
    · unfold sDu; rw [n _ c]; exact (h.1.2.1.2 k' k0 k1).2.2.1
  · rw [n _ (by omega)]; exact h.1.2.2.2.2.1 c c0 c1
  · have b := h.1.2.2.2.2.2 m m0 m1
    unfold sBn sBf sBl
    rw [n _ (by omega)]
    refine ⟨b.1, fun i i0 i1 => ?_⟩
    rw [n _ (by omega), n _ (by omega)]
    exact b.2 i i0 i1
theorem SIr.stp (h : SIr s) {c v : Int} (hc : 0 ≤ c ∧ c < 9) (hv : 0 ≤ v ∧ v ≤ 9) : SIr (sup s (142 + c).toNat v) := by
  have h5 := h.1.1.1
  have h20 := h.1.2.1.1
  have n : ∀ i : Nat, i ≠ (142 + c).toNat → sup s (142 + c).toNat v i = s i := fun i hi => sup_n hi
  refine h.chg (fun i hi => n i (by omega)) (fun j' j0 j1 => ?_) (fun k' k0 k1 => ?_) (fun c' c0 c1 => ?_) (fun m m0 m1 => ?_)
  · obtain ⟨b1, b2, b3, -⟩ := h.1.1.2 j' j0 j1
    unfold sRel sDue sWt
    rw [n _ (by omega), n _ (by omega), n _ (by omega)]
    exact ⟨b1, b2, b3⟩
  · unfold sDu; rw [n _ (by omega)]; exact (h.1.2.1.2 k' k0 k1).2.2.1
  · by_cases z : (142 + c').toNat = (142 + c).toNat
    · rw [z, sup_s]; exact hv
    · rw [n _ z]; exact h.1.2.2.2.2.1 c' c0 c1
  · have b := h.1.2.2.2.2.2 m m0 m1
    unfold sBn sBf sBl
    rw [n _ (by omega)]
    refine ⟨b.1, fun i i0 i1 => ?_⟩
    rw [n _ (by omega), n _ (by omega)]
    exact b.2 i i0 i1
/-- breakdowns -/
theorem SIr.brk (h : SIr s) {s' : Nat → Int} (e : ∀ i, (i < 151 ∨ 179 ≤ i) → s' i = s i) (hB : WfB s') : SIr s' := by
  have h5 := h.1.1.1
  have h20 := h.1.2.1.1
  refine h.chg (fun i hi => e i (by omega)) (fun j' j0 j1 => ?_) (fun k' k0 k1 => ?_) (fun c' c0 c1 => ?_) hB
  · obtain ⟨b1, b2, b3, -⟩ := h.1.1.2 j' j0 j1
    unfold sRel sDue sWt
    rw [e _ (by omega), e _ (by omega), e _ (by omega)]
    exact ⟨b1, b2, b3⟩
  · unfold sDu; rw [e _ (by omega)]; exact (h.1.2.1.2 k' k0 k1).2.2.1
  · rw [e _ (by omega)]; exact h.1.2.2.2.2.1 c' c0 c1
end XS1
