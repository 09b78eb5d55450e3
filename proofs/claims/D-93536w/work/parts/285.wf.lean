/-! ===== what the row's parts say, moved to rows that agree with it ===== -/
theorem WfA.congr {s s' : Nat → Int} (e : ∀ i, i < 179 → s' i = s i) (h : WfA s) : WfA s' := by
  obtain ⟨hJ, hK, hS, hD, hT, hB⟩ := h
  have e0 : s' 0 = s 0 := e 0 (by omega)
  have e1 : s' 1 = s 1 := e 1 (by omega)
  have h5 := hJ.1
  have h20 := hK.1
  have jb : ∀ k : Int, 0 ≤ k → k < s 1 → sJb s' k = sJb s k := fun k k0 k1 => e _ (by omega)
  have mc : ∀ k : Int, 0 ≤ k → k < s 1 → sMc s' k = sMc s k := fun k k0 k1 => e _ (by omega)
  have ix : ∀ k : Int, 0 ≤ k → k < s 1 → sIx s' k = sIx s k := fun k k0 k1 => e _ (by omega)
  have ln : ∀ j : Int, 0 ≤ j → j < s 0 → sLen s' j = sLen s j := fun j j0 j1 => e _ (by omega)
  have sq : ∀ j i : Int, 0 ≤ j → j < s 0 → 0 ≤ i → i < 4 → sSeq s' j i = sSeq s j i := fun j i j0 j1 i0 i1 => e _ (by omega)
  refine ⟨⟨by rw [e0]; exact hJ.1, fun j j0 j1 => ?_⟩, ⟨by rw [e1]; exact hK.1, fun k k0 k1 => ?_⟩, fun j i j0 j1 i0 i1 => ?_, fun k l k0 k1 l0 l1 h1 h2 => ?_, fun c c0 c1 => ?_, fun m m0 m1 => ?_⟩
  · rw [e0] at j1
    have r1 : sRel s' j = sRel s j := e _ (by omega)
    have r2 : sDue s' j = sDue s j := e _ (by omega)
    have r3 : sWt s' j = sWt s j := e _ (by omega)
    rw [r1, r2, r3, ln j j0 j1]
    exact hJ.2 j j0 j1
  · rw [e1] at k1
    obtain ⟨a1, a2, a3, a4, a5, a6⟩ := hK.2 k k0 k1
    have hl := (hJ.2 _ a1.1 a1.2).2.2.2
    have r1 : sDu s' k = sDu s k := e _ (by omega)
    have r2 : sFa s' k = sFa s k := e _ (by omega)
    rw [jb k k0 k1, mc k k0 k1, ix k k0 k1, r1, r2, e0, ln _ a1.1 a1.2, sq _ _ a1.1 a1.2 a5.1 (by omega)]
    exact ⟨a1, a2, a3, a4, a5, a6⟩
  · rw [e0] at j1
    rw [ln j j0 j1] at i1
    have hl := (hJ.2 j j0 j1).2.2.2
    obtain ⟨a1, a2, a3⟩ := hS j i j0 j1 i0 i1
    rw [sq j i j0 j1 i0 (by omega), e1, jb _ a1.1 a1.2, ix _ a1.1 a1.2]
    exact ⟨a1, a2, a3⟩
  · rw [e1] at k1 l1
    rw [jb k k0 k1, jb l l0 l1] at h1
    rw [mc k k0 k1, mc l l0 l1] at h2
    exact hD k l k0 k1 l0 l1 h1 h2
  · rw [e _ (by omega)]
    exact hT c c0 c1
  · have hb := hB m m0 m1
    have r1 : sBn s' m = sBn s m := e _ (by omega)
    rw [r1]
    refine ⟨hb.1, fun i i0 i1 => ?_⟩
    have r2 : sBf s' m i = sBf s m i := e _ (by omega)
    have r3 : sBl s' m i = sBl s m i := e _ (by omega)
    rw [r2, r3]
    exact hb.2 i i0 i1
/-- one machine's order in another sequence -/
theorem WfO.perm {s s' : Nat → Int} (hA : WfA s) (h : WfO s) {m : Int} (hm : 0 ≤ m ∧ m ≤ 3) (e : ∀ i : Nat, ((i : Int) < 183 + 5 * m ∨ 183 + 5 * m + sOn s m ≤ i) → s' i = s i) (f g : Int → Int) (hf : ∀ q : Int, 0 ≤ q → q < sOn s m → (0 ≤ f q ∧ f q < sOn s m) ∧ g (f q) = q) (hg : ∀ q : Int, 0 ≤ q → q < sOn s m → (0 ≤ g q ∧ g q < sOn s m) ∧ f (g q) = q) (hs : ∀ q : Int, 0 ≤ q → q < sOn s m → sOr s' m q = sOr s m (f q)) : WfO s' := by
  have h20 := hA.2.1.1
  have e1 : s' 1 = s 1 := e 1 (by omega)
  have mc : ∀ k : Int, 0 ≤ k → k < s 1 → sMc s' k = sMc s k := fun k k0 k1 => e _ (by omega)
  have on : ∀ z : Int, 0 ≤ z → z ≤ 3 → sOn s' z = sOn s z := fun z z0 z1 => e _ (by omega)
  have hm5 := (h m hm.1 hm.2).1
  have oo : ∀ z p : Int, 0 ≤ z → z ≤ 3 → z ≠ m → 0 ≤ p → p < 5 → sOr s' z p = sOr s z p := fun z p z0 z1 zm p0 p1 => e _ (by omega)
  intro z z0 z1
  obtain ⟨h1, h2, h3, h4⟩ := h z z0 z1
  rw [on z z0 z1, e1]
  by_cases q : z = m
  · subst q
    refine ⟨h1, fun p p0 p1 => ?_, fun a b a0 a1 b0 b1 hab => ?_, fun k k0 k1 hk => ?_⟩
    · obtain ⟨f1, f2⟩ := hf p p0 p1
      obtain ⟨g1, g2⟩ := h2 (f p) f1.1 f1.2
      rw [hs p p0 p1, mc _ g1.1 g1.2]
      exact ⟨g1, g2⟩
    · rw [hs a a0 a1, hs b b0 b1] at hab
      obtain ⟨f1, f2⟩ := hf a a0 a1
      obtain ⟨f3, f4⟩ := hf b b0 b1
      have := h3 (f a) (f b) f1.1 f1.2 f3.1 f3.2 hab
      rw [← f2, ← f4, this]
    · rw [mc k k0 k1] at hk
      obtain ⟨p, p0, p1, p2⟩ := h4 k k0 k1 hk
      obtain ⟨g1, g2⟩ := hg p p0 p1
      exact ⟨g p, g1.1, g1.2, by rw [hs _ g1.1 g1.2, g2, p2]⟩
  · refine ⟨h1, fun p p0 p1 => ?_, fun a b a0 a1 b0 b1 hab => ?_, fun k k0 k1 hk => ?_⟩
    · rw [oo z p z0 z1 q p0 (by omega), mc _ (h2 p p0 p1).1.1 (h2 p p0 p1).1.2]
      exact h2 p p0 p1
    · rw [oo z a z0 z1 q a0 (by omega), oo z b z0 z1 q b0 (by omega)] at hab
      exact h3 a b a0 a1 b0 b1 hab
    · rw [mc k k0 k1] at hk
      obtain ⟨p, p0, p1, p2⟩ := h4 k k0 k1 hk
      exact ⟨p, p0, p1, by rw [oo z p z0 z1 q p0 (by omega), p2]⟩
/-- two neighbours exchanged -/
def sXc (s : Nat → Int) (m p : Int) : Nat → Int := sup (sup s (183 + 5 * m + p).toNat (s (183 + 5 * m + (p + 1)).toNat)) (183 + 5 * m + (p + 1)).toNat (s (183 + 5 * m + p).toNat)
theorem sXc_lo {s : Nat → Int} {m p : Int} (hm : 0 ≤ m) (hp : 0 ≤ p) {i : Nat} (h : i < 183) : sXc s m p i = s i := by unfold sXc; rw [sup_n (by omega), sup_n (by omega)]
theorem sXc_A {s : Nat → Int} {m p : Int} (hm : 0 ≤ m) (hp : 0 ≤ p) (h : WfA s) : WfA (sXc s m p) := h.congr fun i hi => sXc_lo hm hp (by omega)
theorem sXc_O {s : Nat → Int} {m p : Int} (hA : WfA s) (h : WfO s) (hm : 0 ≤ m ∧ m ≤ 3) (hp : 0 ≤ p ∧ p + 1 < sOn s m) : WfO (sXc s m p) := by
  have h5 := (h m hm.1 hm.2).1
  refine h.perm hA hm (fun i hi => ?_) (fun q => if q = p then p + 1 else if q = p + 1 then p else q) (fun q => if q = p then p + 1 else if q = p + 1 then p else q) (fun q q0 q1 => ?_) (fun q q0 q1 => ?_) (fun q q0 q1 => ?_)
  · unfold sXc
    rw [sup_n (by omega), sup_n (by omega)]
  · try dsimp only
    by_cases a : q = p
    · rw [if_pos a, if_neg (by omega), if_pos rfl]; omega
    · by_cases b : q = p + 1
      · rw [if_neg a, if_pos b, if_pos rfl]; omega
      · rw [if_neg a, if_neg b, if_neg a, if_neg b]; omega
  · try dsimp only
    by_cases a : q = p
    · rw [if_pos a, if_neg (by omega), if_pos rfl]; omega
    · by_cases b : q = p + 1
      · rw [if_neg a, if_pos b, if_pos rfl]; omega
      · rw [if_neg a, if_neg b, if_neg a, if_neg b]; omega
  · try dsimp only
    show sXc s m p (183 + 5 * m + q).toNat = _
    unfold sXc
    by_cases a : q = p
    · rw [if_pos a, a, sup_n (by omega), sup_s]
    · by_cases b : q = p + 1
      · rw [if_neg a, if_pos b, b, sup_s]
      · rw [if_neg a, if_neg b, sup_n (by omega), sup_n (by omega)]
theorem sXc_t {w : tW} {m p : Int} : (tset (tset w 0 (183 + 5 * m + p).toNat (w 0 (183 + 5 * m + (p + 1)).toNat)) 0 (183 + 5 * m + (p + 1)).toNat (w 0 (183 + 5 * m + p).toNat)) 0 = sXc (w 0) m p := by
  funext i
  unfold tset sXc sup
  simp
