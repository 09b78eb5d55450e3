/-! ===== copying a shop: the rows ===== -/
/-- along each job the numbers grow -/
def Mono (s : Nat → Int) : Prop := ∀ j a c : Int, 0 ≤ j → j < s 0 → 0 ≤ a → a < c → c < sLen s j → sSeq s j a < sSeq s j c
/-- the first n jobs are copied -/
def cpJ (s x : Nat → Int) (n : Int) : Prop := x 0 = n ∧ x 1 = 0 ∧ WfA x ∧ WfO x ∧ ∀ j : Int, 0 ≤ j → j < n → sRel x j = sRel s j ∧ sDue x j = sDue s j ∧ sWt x j = sWt s j ∧ sLen x j = 0
/-- the first k operations are copied -/
def cpO (s x : Nat → Int) (k : Int) : Prop := x 0 = s 0 ∧ x 1 = k ∧ WfA x ∧ WfO x ∧ (∀ j : Int, 0 ≤ j → j < s 0 → sRel x j = sRel s j ∧ sDue x j = sDue s j ∧ sWt x j = sWt s j) ∧ (∀ l : Int, 0 ≤ l → l < k → sJb x l = sJb s l ∧ sMc x l = sMc s l ∧ sDu x l = sDu s l ∧ sFa x l = sFa s l ∧ sIx x l = sIx s l) ∧ ∀ j : Int, 0 ≤ j → j < s 0 → sLen x j ≤ sLen s j ∧ ∀ i : Int, 0 ≤ i → i < sLen s j → (i < sLen x j ↔ sSeq s j i < k) ∧ (i < sLen x j → sSeq x j i = sSeq s j i)
theorem cpJ.step {s x : Nat → Int} (hs : WfA s) {n : Int} (h0 : 0 ≤ n) (hn : n < s 0) (h : cpJ s x n) : cpJ s (sNJ x (sRel s n) (sDue s n) (sWt s n)) (n + 1) := by
  obtain ⟨h1, h2, h3, h4, h5⟩ := h
  have hj := hs.1.2 n h0 hn
  have h05 := hs.1.1
  obtain ⟨wA, wO, -⟩ := sNJ_W h3 h4 (a := sRel s n) (b := sDue s n) (c := sWt s n) (by omega) hj.1 hj.2.1 hj.2.2.1
  have ev : ∀ j : Int, 0 ≤ j → j < n → ∀ c : Int, c = 2 ∨ c = 7 ∨ c = 12 ∨ c = 17 → sNJ x (sRel s n) (sDue s n) (sWt s n) (c + j).toNat = x (c + j).toNat := fun j j0 j1 c hc => sNJ_n (by rw [h1]; omega)
  refine ⟨?_, ?_, wA, wO, fun j j0 j1 => ?_⟩
  · unfold sNJ; rw [if_pos rfl, h1]
  · rw [sNJ_n (by rw [h1]; omega)]; exact h2
  · rcases (by omega : j < n ∨ j = n) with z | rfl
    · have a := h5 j j0 z
      unfold sRel sDue sWt sLen at a ⊢
      rw [ev j j0 z 2 (by omega), ev j j0 z 7 (by omega), ev j j0 z 12 (by omega), ev j j0 z 17 (by omega)]
      exact a
    · unfold sRel sDue sWt sLen sNJ
      rw [h1]
      refine ⟨?_, ?_, ?_, ?_⟩
      · rw [if_neg (by omega), if_neg (by omega), if_neg (by omega), if_neg (by omega), if_pos rfl]
      · rw [if_neg (by omega), if_neg (by omega), if_neg (by omega), if_pos rfl]
      · rw [if_neg (by omega), if_neg (by omega), if_pos rfl]
      · rw [if_neg (by omega), if_pos rfl]
theorem cpJ.ops {s x : Nat → Int} (hs : WfA s) (h : cpJ s x (s 0)) : cpO s x 0 := by
  obtain ⟨h1, h2, h3, h4, h5⟩ := h
  refine ⟨h1, h2, h3, h4, fun j j0 j1 => ⟨(h5 j j0 j1).1, (h5 j j0 j1).2.1, (h5 j j0 j1).2.2.1⟩, fun l l0 l1 => by omega, fun j j0 j1 => ?_⟩
  have hl := (hs.1.2 j j0 j1).2.2.2
  have e := (h5 j j0 j1).2.2.2
  refine ⟨by omega, fun i i0 i1 => ⟨?_, fun z => by omega⟩⟩
  have := (hs.2.2.1 j i j0 j1 i0 i1).1
  omega
theorem cpO.pre {s x : Nat → Int} (hs : WfA s) (hM : Mono s) {k : Int} (h0 : 0 ≤ k) (hk : k < s 1) (h : cpO s x k) : sLen x (sJb s k) = sIx s k ∧ noM x (sJb s k) (sMc s k) ∧ sOn x (sMc s k) < 5 ∧ k < 20 := by
  obtain ⟨h1, h2, h3, h4, h5, h6, h7⟩ := h
  obtain ⟨a1, a2, a3, a4, a5, a6⟩ := hs.2.1.2 k h0 hk
  obtain ⟨b1, b2⟩ := h7 _ a1.1 a1.2
  have hxl := (h3.1.2 (sJb s k) a1.1 (by omega)).2.2.2
  have e : sLen x (sJb s k) = sIx s k := by
    have c1 := (b2 _ a5.1 a5.2).1
    rw [a6] at c1
    by_cases z : sIx s k = 0
    · omega
    · have c2 := (b2 (sIx s k - 1) (by omega) (by omega)).1
      have c3 := hM (sJb s k) (sIx s k - 1) (sIx s k) a1.1 a1.2 (by omega) (by omega) a5.2
      rw [a6] at c3
      omega
  have hno : noM x (sJb s k) (sMc s k) := fun i i0 i1 => by
    have q := b2 i i0 (by omega)
    have q1 := q.1.mp i1
    have q2 := q.2 i1
    have q3 := hs.2.2.1 (sJb s k) i a1.1 a1.2 i0 (by omega)
    have q4 := h6 _ q3.1.1 q1
    rw [q2, q4.2.1]
    intro q5
    have := hs.2.2.2.1 (sSeq s (sJb s k) i) k q3.1.1 q3.1.2 h0 hk q3.2.1 q5
    omega
  have h20 := hs.2.1.1
  exact ⟨e, hno, room_on h3 h4 (j := sJb s k) (m := sMc s k) (by omega) a2 hno, by omega⟩
theorem cpO.step {s x : Nat → Int} (hs : WfA s) (hM : Mono s) {k : Int} (h0 : 0 ≤ k) (hk : k < s 1) (h : cpO s x k) : cpO s (sNO x (sJb s k) (sMc s k) (sDu s k) (sFa s k)) (k + 1) := by
  obtain ⟨e, hno, hon, h20⟩ := h.pre hs hM h0 hk
  obtain ⟨h1, h2, h3, h4, h5, h6, h7⟩ := h
  obtain ⟨a1, a2, a3, a4, a5, a6⟩ := hs.2.1.2 k h0 hk
  have hl := (hs.1.2 _ a1.1 a1.2).2.2.2
  have h05 := hs.1.1
  have hxo := (h4 (sMc s k) a2.1 a2.2).1
  have hn : nop x (sJb s k) (sMc s k) := ⟨by omega, by omega, a2, by omega, by omega⟩
  have wA := sNO_A h3 h4 (j := sJb s k) (m := sMc s k) (u := sDu s k) (f := sFa s k) (by omega) a2 a3 a4 (by omega) hno
  have wO := sNO_O h3 h4 (j := sJb s k) (m := sMc s k) (u := sDu s k) (f := sFa s k) (by omega) a2 a3 a4 (by omega) hno
  refine ⟨?_, ?_, wA, wO, fun j j0 j1 => ?_, fun l l0 l1 => ?_, fun j j0 j1 => ?_⟩
  · rw [sNO_n (by rw [h2]; omega)]; exact h1
  · unfold sNO; rw [if_pos rfl, h2]
  · rw [sNO_rel hn j j0 (by omega), sNO_due hn j j0 (by omega), sNO_wt hn j j0 (by omega)]
    exact h5 j j0 j1
  · rcases (by omega : l < k ∨ l = k) with z | rfl
    · rw [sNO_jb hn l l0 (by omega), sNO_mc hn l l0 (by omega), sNO_du hn l l0 (by omega), sNO_fa hn l l0 (by omega), sNO_ix hn l l0 (by omega)]
      exact h6 l l0 z
    · have e1 := sNO_j1 (u := sDu s l) (f := sFa s l) hn
      have e2 := sNO_m1 (u := sDu s l) (f := sFa s l) hn
      have e3 := sNO_u1 (u := sDu s l) (f := sFa s l) hn
      have e4 := sNO_f1 (u := sDu s l) (f := sFa s l) hn
      have e5 := sNO_x1 (u := sDu s l) (f := sFa s l) hn
      rw [h2] at e1 e2 e3 e4 e5
      exact ⟨e1, e2, e3, e4, e5.trans e⟩
  · have hlj := (hs.1.2 j j0 j1).2.2.2
    by_cases z : j = sJb s k
    · subst z
      have e1 := sNO_l1 (u := sDu s k) (f := sFa s k) hn
      refine ⟨by omega, fun i i0 i1 => ?_⟩
      obtain ⟨b1, b2⟩ := h7 _ j0 j1
      by_cases zi : i = sIx s k
      · subst zi
        rw [e1, a6]
        refine ⟨by omega, fun _ => ?_⟩
        have e2 := sNO_q1 (u := sDu s k) (f := sFa s k) hn
        rw [e, h2] at e2
        exact e2
      · obtain ⟨c1, c2⟩ := b2 i i0 i1
        have c3 := sNO_sq (u := sDu s k) (f := sFa s k) hn (sJb s k) i j0 (by omega) i0 (by omega) (by omega)
        have c4 : sSeq s (sJb s k) i ≠ k := fun q => by
          have := (hs.2.2.1 (sJb s k) i j0 j1 i0 i1).2.2
          rw [q] at this
          omega
        rw [e1, c3]
        exact ⟨by omega, fun q => c2 (by omega)⟩
    · have e1 := sNO_ln (u := sDu s k) (f := sFa s k) hn j j0 (by omega) z
      rw [e1]
      obtain ⟨b1, b2⟩ := h7 j j0 j1
      refine ⟨b1, fun i i0 i1 => ?_⟩
      obtain ⟨c1, c2⟩ := b2 i i0 i1
      have hxj := (h3.1.2 (sJb s k) a1.1 (by omega)).2.2.2
      have c3 := sNO_sq (u := sDu s k) (f := sFa s k) hn j i j0 (by omega) i0 (by omega) (by omega)
      have c4 : sSeq s j i ≠ k := fun q => by
        have := (hs.2.2.1 j i j0 j1 i0 i1).2.1
        rw [q] at this
        exact z this.symm
      rw [c3]
      exact ⟨by omega, c2⟩
/-- at the end all operations are there -/
theorem cpO.fin {s x : Nat → Int} (hs : WfA s) (h : cpO s x (s 1)) {j : Int} (j0 : 0 ≤ j) (j1 : j < s 0) : sLen x j = sLen s j ∧ ∀ i : Int, 0 ≤ i → i < sLen s j → sSeq x j i = sSeq s j i := by
  obtain ⟨h1, -, h3, -, -, -, h7⟩ := h
  obtain ⟨b1, b2⟩ := h7 j j0 j1
  have hl := (hs.1.2 j j0 j1).2.2.2
  have e : sLen x j = sLen s j := by
    by_cases z : sLen s j = 0
    · have := (h3.1.2 j j0 (by omega)).2.2.2
      omega
    · have c := (b2 (sLen s j - 1) (by omega) (by omega)).1
      have := (hs.2.2.1 j (sLen s j - 1) j0 j1 (by omega) (by omega)).1
      omega
  exact ⟨e, fun i i0 i1 => (b2 i i0 i1).2 (by omega)⟩
