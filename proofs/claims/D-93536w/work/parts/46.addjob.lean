/-! ===== the row with a new job ===== -/
def sNJ (s : Nat → Int) (a b c : Int) : Nat → Int := fun i => if i = 0 then s 0 + 1 else if i = (17 + s 0).toNat then 0 else if i = (12 + s 0).toNat then c else if i = (7 + s 0).toNat then b else if i = (2 + s 0).toNat then a else s i
theorem wJob_0 {w : tW} {a b c : Int} : wJob w a b c 0 = sNJ (w 0) a b c := by
  unfold wJob
  rw [tset_row, tset_row, tset_row, tset_row, tset_row]
  rfl
theorem wJob_f {w : tW} {a b c : Int} {g : Nat} (h : g ≠ 0) : wJob w a b c g = w g := by
  unfold wJob
  rw [tset_g h, tset_g h, tset_g h, tset_g h, tset_g h]
theorem sNJ_n {s : Nat → Int} {a b c : Int} {i : Nat} (h : i ≠ 0 ∧ i ≠ (17 + s 0).toNat ∧ i ≠ (12 + s 0).toNat ∧ i ≠ (7 + s 0).toNat ∧ i ≠ (2 + s 0).toNat) : sNJ s a b c i = s i := by
  obtain ⟨q1, q2, q3, q4, q5⟩ := h
  unfold sNJ
  rw [if_neg q1, if_neg q2, if_neg q3, if_neg q4, if_neg q5]
theorem sNJ_W {s : Nat → Int} (hA : WfA s) (hO : WfO s) {a b c : Int} (h5 : s 0 < 5) (ha : 0 ≤ a ∧ a ≤ 99) (hb : 0 ≤ b ∧ b ≤ 200) (hc : 0 ≤ c ∧ c ≤ 9) : WfA (sNJ s a b c) ∧ WfO (sNJ s a b c) ∧ ∀ o, ACy s o → ACy (sNJ s a b c) o := by
  have h20 := hA.2.1.1
  have h05 := hA.1.1
  have t0 : sNJ s a b c 0 = s 0 + 1 := if_pos rfl
  have ta : sRel (sNJ s a b c) (s 0) = a := by show sNJ s a b c _ = _; unfold sNJ; rw [if_neg (by omega), if_neg (by omega), if_neg (by omega), if_neg (by omega), if_pos rfl]
  have tb : sDue (sNJ s a b c) (s 0) = b := by show sNJ s a b c _ = _; unfold sNJ; rw [if_neg (by omega), if_neg (by omega), if_neg (by omega), if_pos rfl]
  have tc : sWt (sNJ s a b c) (s 0) = c := by show sNJ s a b c _ = _; unfold sNJ; rw [if_neg (by omega), if_neg (by omega), if_pos rfl]
  have tl : sLen (sNJ s a b c) (s 0) = 0 := by show sNJ s a b c _ = _; unfold sNJ; rw [if_neg (by omega), if_pos rfl]
  have hi : ∀ i : Nat, (i = 1 ∨ 22 ≤ i) → sNJ s a b c i = s i := fun i q => sNJ_n (by omega)
  have jr : ∀ j : Int, 0 ≤ j → j < s 0 → sRel (sNJ s a b c) j = sRel s j := fun j j0 j1 => sNJ_n (by omega)
  have jd : ∀ j : Int, 0 ≤ j → j < s 0 → sDue (sNJ s a b c) j = sDue s j := fun j j0 j1 => sNJ_n (by omega)
  have jw : ∀ j : Int, 0 ≤ j → j < s 0 → sWt (sNJ s a b c) j = sWt s j := fun j j0 j1 => sNJ_n (by omega)
  have jl : ∀ j : Int, 0 ≤ j → j < s 0 → sLen (sNJ s a b c) j = sLen s j := fun j j0 j1 => sNJ_n (by omega)
  generalize sNJ s a b c = t at *
  have e1 : t 1 = s 1 := hi 1 (by omega)
  have jb : ∀ k : Int, 0 ≤ k → k < s 1 → sJb t k = sJb s k := fun k k0 k1 => hi _ (by omega)
  have mc : ∀ k : Int, 0 ≤ k → k < s 1 → sMc t k = sMc s k := fun k k0 k1 => hi _ (by omega)
  have du : ∀ k : Int, 0 ≤ k → k < s 1 → sDu t k = sDu s k := fun k k0 k1 => hi _ (by omega)
  have fa : ∀ k : Int, 0 ≤ k → k < s 1 → sFa t k = sFa s k := fun k k0 k1 => hi _ (by omega)
  have ix : ∀ k : Int, 0 ≤ k → k < s 1 → sIx t k = sIx s k := fun k k0 k1 => hi _ (by omega)
  have sq : ∀ j i : Int, 0 ≤ j → 0 ≤ i → sSeq t j i = sSeq s j i := fun j i j0 i0 => hi _ (by omega)
  have onn : ∀ z : Int, 0 ≤ z → sOn t z = sOn s z := fun z z0 => hi _ (by omega)
  have orr : ∀ z p : Int, 0 ≤ z → 0 ≤ p → sOr t z p = sOr s z p := fun z p z0 p0 => hi _ (by omega)
  refine ⟨⟨⟨by rw [t0]; omega, fun j j0 j1 => ?_⟩, ⟨by rw [e1]; exact h20, fun k k0 k1 => ?_⟩, fun j i j0 j1 i0 i1 => ?_, fun k l k0 k1 l0 l1 q1 q2 => ?_, fun x x0 x1 => ?_, fun z z0 z1 => ?_⟩, fun z z0 z1 => ?_, fun o ⟨r, hr⟩ => ⟨r, fun k k0 k1 => ?_⟩⟩
  · rcases (by omega : j < s 0 ∨ j = s 0) with q | q
    · rw [jr j j0 q, jd j j0 q, jw j j0 q, jl j j0 q]
      exact hA.1.2 j j0 q
    · rw [q, ta, tb, tc, tl]
      exact ⟨ha, hb, hc, by omega⟩
  · rw [e1] at k1
    obtain ⟨a1, a2, a3, a4, a5, a6⟩ := hA.2.1.2 k k0 k1
    rw [jb k k0 k1, mc k k0 k1, du k k0 k1, fa k k0 k1, ix k k0 k1, t0, jl _ a1.1 a1.2, sq _ _ a1.1 a5.1]
    exact ⟨⟨a1.1, by omega⟩, a2, a3, a4, a5, a6⟩
  · rcases (by omega : j < s 0 ∨ j = s 0) with q | q
    · rw [jl j j0 q] at i1
      obtain ⟨a1, a2, a3⟩ := hA.2.2.1 j i j0 q i0 i1
      rw [sq j i j0 i0, e1, jb _ a1.1 a1.2, ix _ a1.1 a1.2]
      exact ⟨a1, a2, a3⟩
    · rw [q, tl] at i1
      omega
  · rw [e1] at k1 l1
    rw [jb k k0 k1, jb l l0 l1] at q1
    rw [mc k k0 k1, mc l l0 l1] at q2
    exact hA.2.2.2.1 k l k0 k1 l0 l1 q1 q2
  · rw [hi _ (by omega)]
    exact hA.2.2.2.2.1 x x0 x1
  · obtain ⟨b1, b2⟩ := hA.2.2.2.2.2 z z0 z1
    have f1 : sBn t z = sBn s z := hi _ (by omega)
    rw [f1]
    refine ⟨b1, fun i i0 i1 => ?_⟩
    have f2 : sBf t z i = sBf s z i := hi _ (by omega)
    have f3 : sBl t z i = sBl s z i := hi _ (by omega)
    rw [f2, f3]
    exact b2 i i0 i1
  · obtain ⟨o1, o2, o3, o4⟩ := hO z z0 z1
    rw [onn z z0, e1]
    refine ⟨o1, fun p p0 p1 => ?_, fun p q p0 p1 q0 q1 e => ?_, fun k k0 k1 q => ?_⟩
    · obtain ⟨d1, d2⟩ := o2 p p0 p1
      rw [orr z p z0 p0, mc _ d1.1 d1.2]
      exact ⟨d1, d2⟩
    · rw [orr z p z0 p0, orr z q z0 q0] at e
      exact o3 p q p0 p1 q0 q1 e
    · rw [mc k k0 k1] at q
      obtain ⟨p, p0, p1, p2⟩ := o4 k k0 k1 q
      exact ⟨p, p0, p1, by rw [orr z p z0 p0]; exact p2⟩
  · rw [e1] at k1
    obtain ⟨a1, a2, a3, a4, a5, a6⟩ := hA.2.1.2 k k0 k1
    have eb : sBef t k = sBef s k := by
      unfold sBef
      rw [ix k k0 k1, jb k k0 k1]
      split
      · rfl
      · exact sq _ _ a1.1 (by omega)
    have ep : sPos t k = sPos s k := by
      unfold sPos
      rw [mc k k0 k1, orr _ 0 a2.1 (by omega), orr _ 1 a2.1 (by omega), orr _ 2 a2.1 (by omega), orr _ 3 a2.1 (by omega)]
    have pr := sPos_r s k
    have ea : sAh t o k = sAh s o k := by
      unfold sAh
      rw [mc k k0 k1, ep]
      split
      · rfl
      · split
        · rfl
        · exact orr _ _ a2.1 (by omega)
    rw [eb, ea]
    exact hr k k0 k1

