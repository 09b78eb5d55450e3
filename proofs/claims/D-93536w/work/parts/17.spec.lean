/-! ===== the words of the specification: a row s of 203 numbers, laid out as the reference has it ===== -/
abbrev sRel (s : Nat → Int) (j : Int) : Int := s (2 + j).toNat
abbrev sDue (s : Nat → Int) (j : Int) : Int := s (7 + j).toNat
abbrev sWt (s : Nat → Int) (j : Int) : Int := s (12 + j).toNat
abbrev sLen (s : Nat → Int) (j : Int) : Int := s (17 + j).toNat
abbrev sSeq (s : Nat → Int) (j i : Int) : Int := s (22 + 4 * j + i).toNat
abbrev sJb (s : Nat → Int) (k : Int) : Int := s (42 + k).toNat
abbrev sMc (s : Nat → Int) (k : Int) : Int := s (62 + k).toNat
abbrev sDu (s : Nat → Int) (k : Int) : Int := s (82 + k).toNat
abbrev sFa (s : Nat → Int) (k : Int) : Int := s (102 + k).toNat
abbrev sIx (s : Nat → Int) (k : Int) : Int := s (122 + k).toNat
abbrev sSu (s : Nat → Int) (a b : Int) : Int := s (142 + 3 * sFa s a + sFa s b).toNat
abbrev sBn (s : Nat → Int) (m : Int) : Int := s (151 + m).toNat
abbrev sBf (s : Nat → Int) (m i : Int) : Int := s (155 + 3 * m + i).toNat
abbrev sBl (s : Nat → Int) (m i : Int) : Int := s (167 + 3 * m + i).toNat
abbrev sOn (s : Nat → Int) (m : Int) : Int := s (179 + m).toNat
abbrev sOr (s : Nat → Int) (m p : Int) : Int := s (183 + 5 * m + p).toNat
/-- jobs -/
def WfJ (s : Nat → Int) : Prop := (0 ≤ s 0 ∧ s 0 ≤ 5) ∧ ∀ j : Int, 0 ≤ j → j < s 0 → (0 ≤ sRel s j ∧ sRel s j ≤ 99) ∧ (0 ≤ sDue s j ∧ sDue s j ≤ 200) ∧ (0 ≤ sWt s j ∧ sWt s j ≤ 9) ∧ (0 ≤ sLen s j ∧ sLen s j ≤ 4)
/-- operations -/
def WfK (s : Nat → Int) : Prop := (0 ≤ s 1 ∧ s 1 ≤ 20) ∧ ∀ k : Int, 0 ≤ k → k < s 1 → (0 ≤ sJb s k ∧ sJb s k < s 0) ∧ (0 ≤ sMc s k ∧ sMc s k ≤ 3) ∧ (1 ≤ sDu s k ∧ sDu s k ≤ 30) ∧ (0 ≤ sFa s k ∧ sFa s k ≤ 2) ∧ (0 ≤ sIx s k ∧ sIx s k < sLen s (sJb s k)) ∧ sSeq s (sJb s k) (sIx s k) = k
/-- the steps of the jobs -/
def WfS (s : Nat → Int) : Prop := ∀ j i : Int, 0 ≤ j → j < s 0 → 0 ≤ i → i < sLen s j → (0 ≤ sSeq s j i ∧ sSeq s j i < s 1) ∧ sJb s (sSeq s j i) = j ∧ sIx s (sSeq s j i) = i
/-- a job visits a machine once -/
def WfD (s : Nat → Int) : Prop := ∀ k l : Int, 0 ≤ k → k < s 1 → 0 ≤ l → l < s 1 → sJb s k = sJb s l → sMc s k = sMc s l → k = l
def WfT (s : Nat → Int) : Prop := ∀ c : Int, 0 ≤ c → c < 9 → 0 ≤ s (142 + c).toNat ∧ s (142 + c).toNat ≤ 9
def WfB (s : Nat → Int) : Prop := ∀ m : Int, 0 ≤ m → m ≤ 3 → (0 ≤ sBn s m ∧ sBn s m ≤ 3) ∧ ∀ i : Int, 0 ≤ i → i < sBn s m → (0 ≤ sBf s m i ∧ sBf s m i ≤ 400) ∧ (1 ≤ sBl s m i ∧ sBl s m i ≤ 60)
def WfA (s : Nat → Int) : Prop := WfJ s ∧ WfK s ∧ WfS s ∧ WfD s ∧ WfT s ∧ WfB s
/-- the orders: of each machine all its operations, each once -/
def WfO (s : Nat → Int) : Prop := ∀ m : Int, 0 ≤ m → m ≤ 3 → (0 ≤ sOn s m ∧ sOn s m ≤ 5) ∧ (∀ p : Int, 0 ≤ p → p < sOn s m → (0 ≤ sOr s m p ∧ sOr s m p < s 1) ∧ sMc s (sOr s m p) = m) ∧ (∀ p q : Int, 0 ≤ p → p < sOn s m → 0 ≤ q → q < sOn s m → sOr s m p = sOr s m q → p = q) ∧ ∀ k : Int, 0 ≤ k → k < s 1 → sMc s k = m → ∃ p : Int, 0 ≤ p ∧ p < sOn s m ∧ sOr s m p = k
/-! the least time from f on at which the machine m runs for d -/
def hind (s : Nat → Int) (m d t i : Int) : Prop := sBf s m i < t + d ∧ t < sBf s m i + sBl s m i
def isFree (s : Nat → Int) (m f d v : Int) : Prop := f ≤ v ∧ (∀ i : Int, 0 ≤ i → i < sBn s m → ¬ hind s m d v i) ∧ ∀ t : Int, f ≤ t → t < v → ∃ i : Int, 0 ≤ i ∧ i < sBn s m ∧ hind s m d t i
theorem isFree.uniq {s : Nat → Int} {m f d v u : Int} (h : isFree s m f d v) (g : isFree s m f d u) : v = u := by
  rcases Int.lt_trichotomy v u with q | q | q
  · obtain ⟨i, h1, h2, h3⟩ := g.2.2 v h.1 q
    exact absurd h3 (h.2.1 i h1 h2)
  · exact q
  · obtain ⟨i, h1, h2, h3⟩ := h.2.2 u g.1 q
    exact absurd h3 (g.2.1 i h1 h2)
noncomputable def sFree (s : Nat → Int) (m f d : Int) : Int := @dite _ (∃ v, isFree s m f d v) (Classical.propDecidable _) (fun h => Classical.choose h) (fun _ => f)
theorem isFree.eq {s : Nat → Int} {m f d v : Int} (h : isFree s m f d v) : sFree s m f d = v := by
  have e : ∃ v, isFree s m f d v := ⟨v, h⟩
  unfold sFree
  rw [dif_pos e]
  exact (Classical.choose_spec e).uniq h
/-- it is at most 460 or f itself -/
theorem isFree.le {s : Nat → Int} (hB : WfB s) {m f d v : Int} (hm : 0 ≤ m ∧ m ≤ 3) (h : isFree s m f d v) : v ≤ f ∨ v ≤ 460 := by
  by_cases q : v ≤ f
  · exact Or.inl q
  · obtain ⟨i, h1, h2, h3⟩ := h.2.2 (v - 1) (by omega) (by omega)
    have := ((hB m hm.1 hm.2).2 i h1 h2)
    unfold hind at h3
    right
    omega
/-! who goes ahead -/
def sBef (s : Nat → Int) (k : Int) : Int := if sIx s k = 0 then -1 else sSeq s (sJb s k) (sIx s k - 1)
def sPos (s : Nat → Int) (k : Int) : Int := if sOr s (sMc s k) 0 = k then 0 else if sOr s (sMc s k) 1 = k then 1 else if sOr s (sMc s k) 2 = k then 2 else if sOr s (sMc s k) 3 = k then 3 else 4
def isPos (s : Nat → Int) (k p : Int) : Prop := (0 ≤ p ∧ p < 5) ∧ sOr s (sMc s k) p = k ∧ ∀ q : Int, 0 ≤ q → q < p → sOr s (sMc s k) q ≠ k
theorem isPos.eq {s : Nat → Int} {k p : Int} (h : isPos s k p) : sPos s k = p := by
  obtain ⟨h0, h1, h2⟩ := h
  unfold sPos
  rcases (by omega : p = 0 ∨ p = 1 ∨ p = 2 ∨ p = 3 ∨ p = 4) with rfl | rfl | rfl | rfl | rfl
  · rw [if_pos h1]
  · rw [if_neg (h2 0 (by omega) (by omega)), if_pos h1]
  · rw [if_neg (h2 0 (by omega) (by omega)), if_neg (h2 1 (by omega) (by omega)), if_pos h1]
  · rw [if_neg (h2 0 (by omega) (by omega)), if_neg (h2 1 (by omega) (by omega)), if_neg (h2 2 (by omega) (by omega)), if_pos h1]
  · rw [if_neg (h2 0 (by omega) (by omega)), if_neg (h2 1 (by omega) (by omega)), if_neg (h2 2 (by omega) (by omega)), if_neg (h2 3 (by omega) (by omega))]
/-- with the orders whole every operation has its place -/
theorem WfO.pos {s : Nat → Int} (hO : WfO s) {k : Int} (hk : 0 ≤ k ∧ k < s 1) (hm : 0 ≤ sMc s k ∧ sMc s k ≤ 3) : isPos s k (sPos s k) ∧ sPos s k < sOn s (sMc s k) := by
  obtain ⟨h1, h2, h3, h4⟩ := hO (sMc s k) hm.1 hm.2
  obtain ⟨p, p0, p1, p2⟩ := h4 k hk.1 hk.2 rfl
  have hp : isPos s k p := ⟨by omega, p2, fun q q0 q1 e => by
    have := h3 p q p0 p1 q0 (by omega) (by rw [p2, e])
    omega⟩
  rw [hp.eq]
  exact ⟨hp, p1⟩
/-- o: which machines are open -/
def sAh (s o : Nat → Int) (k : Int) : Int := if o (sMc s k).toNat ≠ 0 then -1 else if sPos s k = 0 then -1 else sOr s (sMc s k) (sPos s k - 1)
/-- when the operation k is ready, by the ends of those ahead -/
def sRdy (s o : Nat → Int) (st : Int → Int) (k : Int) : Int :=
  max (max (sRel s (sJb s k)) (if sBef s k = -1 then sRel s (sJb s k) else st (sBef s k) + sDu s (sBef s k))) (if sAh s o k = -1 then sRel s (sJb s k) else st (sAh s o k) + sDu s (sAh s o k) + sSu s (sAh s o k) k)
def sFrom (hd hu k t : Int) : Int := if k = hd then max t hu else t
/-- a schedule: pl: which operations have times; rd, st: ready, start -/
def Tm (s o : Nat → Int) (hd hu : Int) (pl : Int → Prop) (rd st : Int → Int) : Prop :=
  (∀ k : Int, 0 ≤ k → k < s 1 → pl k → (sBef s k = -1 ∨ pl (sBef s k)) ∧ (sAh s o k = -1 ∨ pl (sAh s o k)) ∧ rd k = sRdy s o st k ∧ isFree s (sMc s k) (sFrom hd hu k (rd k)) (sDu s k) (st k)) ∧
  ∀ k : Int, 0 ≤ k → k < s 1 → ¬ pl k → (sBef s k ≠ -1 ∧ ¬ pl (sBef s k)) ∨ (sAh s o k ≠ -1 ∧ ¬ pl (sAh s o k))
theorem sBef_ok {s : Nat → Int} (hA : WfA s) {k : Int} (h0 : 0 ≤ k) (h1 : k < s 1) : sBef s k = -1 ∨ ((0 ≤ sBef s k ∧ sBef s k < s 1) ∧ sJb s (sBef s k) = sJb s k ∧ sIx s (sBef s k) = sIx s k - 1) := by
  obtain ⟨-, hK, hS, -⟩ := hA
  obtain ⟨⟨a0, a1⟩, -, -, -, ⟨b0, b1⟩, -⟩ := hK.2 k h0 h1
  unfold sBef
  split
  · exact Or.inl rfl
  · right
    obtain ⟨c1, c2, c3⟩ := hS (sJb s k) (sIx s k - 1) a0 a1 (by omega) (by omega)
    exact ⟨c1, c2, c3⟩
theorem sAh_ok {s o : Nat → Int} (hA : WfA s) (hO : WfO s) {k : Int} (h0 : 0 ≤ k) (h1 : k < s 1) : sAh s o k = -1 ∨ (o (sMc s k).toNat = 0 ∧ (0 ≤ sAh s o k ∧ sAh s o k < s 1) ∧ sMc s (sAh s o k) = sMc s k ∧ 1 ≤ sPos s k ∧ sPos s (sAh s o k) = sPos s k - 1) := by
  obtain ⟨-, hK, -⟩ := hA
  obtain ⟨-, hm, -⟩ := hK.2 k h0 h1
  obtain ⟨hp, hq⟩ := hO.pos ⟨h0, h1⟩ hm
  unfold sAh
  by_cases c1 : o (sMc s k).toNat ≠ 0
  · rw [if_pos c1]; exact Or.inl rfl
  · rw [if_neg c1]
    by_cases c2 : sPos s k = 0
    · rw [if_pos c2]; exact Or.inl rfl
    · rw [if_neg c2]
      right
      obtain ⟨⟨p0, p1⟩, p2, p3⟩ := hp
      obtain ⟨-, g2, g3, -⟩ := hO (sMc s k) hm.1 hm.2
      obtain ⟨d1, d2⟩ := g2 (sPos s k - 1) (by omega) (by omega)
      refine ⟨Classical.not_not.mp c1, d1, d2, by omega, isPos.eq ⟨by omega, by rw [d2], fun q q0 q1 => ?_⟩⟩
      rw [d2]
      intro e
      have := g3 q (sPos s k - 1) q0 (by omega) (by omega) (by omega) e
      omega
