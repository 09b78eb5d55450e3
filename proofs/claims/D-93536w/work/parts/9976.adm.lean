/-! ===== tabu search: a choice by the numbers of the swaps (plain) ===== -/
theorem adm_iff {s o rd st : Nat → Int} (hA : WfA s) (hO : WfO s) {fb : Int → Int → Prop} {le : Int} (hr : ∀ i : Nat, i < (pthS s o rd st).length → 0 ≤ pthF s o rd st i ∧ pthF s o rd st i < s 1) {m p v : Int} :
    admT s o rd st fb le (pthS s o rd st).length m p v ↔ (0 ≤ m ∧ m ≤ 3) ∧ (0 ≤ p ∧ p + 1 < sOn s m) ∧ swI s o rd st (pthS s o rd st).length (5 * m + p) ∧ MkR (sXc s m p) o v ∧ 0 ≤ v ∧ (¬ fb (sOr s m p) (sOr s m (p + 1)) ∨ v < le) := by
  constructor
  · rintro ⟨i, i1, i2, i3, i4, i5, i6, i7⟩
    obtain ⟨p', p0, p1, p2, p3, p4, p5⟩ := pthF_adj hA hO i1 (hr _ i1) (i2.trans i3.symm)
    have mr := (hA.2.1.2 _ (hr i (by omega)).1 (hr i (by omega)).2).2.1
    rw [i2] at p1 p4 p5 mr
    rw [p2] at i4
    subst i4
    refine ⟨mr, ⟨p0, p1⟩, ⟨i, i1, i2.trans i3.symm, by rw [i2, p2]⟩, i5, i6, ?_⟩
    rw [p4, p5]
    exact i7
  · rintro ⟨m1, p1, ⟨j, j1, j2, j3⟩, h5, h6, h7⟩
    obtain ⟨p', z0, z1, z2, z3, z4, z5⟩ := pthF_adj hA hO j1 (hr _ j1) j2
    have mr := (hA.2.1.2 _ (hr j (by omega)).1 (hr j (by omega)).2).2.1
    have on := (hO _ mr.1 mr.2).1
    have on2 := (hO m m1.1 m1.2).1
    have em : sMc s (pthF s o rd st j) = m := by omega
    have ep : p' = p := by omega
    subst ep
    rw [em] at z4 z5
    refine ⟨j, j1, em, j2.symm.trans em, z2, h5, h6, ?_⟩
    rw [z4, z5] at h7
    exact h7
/-- the best of the swaps with numbers below i -/
def pkI (s o rd st : Nat → Int) (fb : Int → Int → Prop) (le : Int) (i best bn : Int) : Prop :=
  (best = -1 ∧ ∀ m p v, admT s o rd st fb le (pthS s o rd st).length m p v → i ≤ 5 * m + p) ∨ (∃ m p, best = 5 * m + p ∧ best < i ∧ admT s o rd st fb le (pthS s o rd st).length m p bn ∧ ∀ m' p' v', admT s o rd st fb le (pthS s o rd st).length m' p' v' → 5 * m' + p' < i → bn < v' ∨ (bn = v' ∧ 5 * m + p ≤ 5 * m' + p'))
section PkI
variable {s o rd st : Nat → Int} {fb : Int → Int → Prop} {le i best bn : Int}
theorem pkI.no (h : pkI s o rd st fb le i best bn) (hn : ∀ m p v, admT s o rd st fb le (pthS s o rd st).length m p v → 5 * m + p ≠ i) : pkI s o rd st fb le (i + 1) best bn := by
  rcases h with ⟨h1, h2⟩ | ⟨m, p, h1, h2, h3, h4⟩
  · exact Or.inl ⟨h1, fun m p v q => by have := h2 m p v q; have := hn m p v q; omega⟩
  · exact Or.inr ⟨m, p, h1, by omega, h3, fun m' p' v' q z => h4 m' p' v' q (by have := hn m' p' v' q; omega)⟩
theorem pkI.old (h : pkI s o rd st fb le i best bn) (hb : best ≠ -1) (hn : ∀ m p v, admT s o rd st fb le (pthS s o rd st).length m p v → 5 * m + p = i → bn ≤ v) : pkI s o rd st fb le (i + 1) best bn := by
  rcases h with ⟨h1, -⟩ | ⟨m, p, h1, h2, h3, h4⟩
  · exact absurd h1 hb
  · refine Or.inr ⟨m, p, h1, by omega, h3, fun m' p' v' q z => ?_⟩
    by_cases e : 5 * m' + p' = i
    · have := hn m' p' v' q e; omega
    · exact h4 m' p' v' q (by omega)
theorem pkI.new (h : pkI s o rd st fb le i best bn) {m p v : Int} (hy : admT s o rd st fb le (pthS s o rd st).length m p v) (hi : 5 * m + p = i) (hu : ∀ m' p' v', admT s o rd st fb le (pthS s o rd st).length m' p' v' → 5 * m' + p' = i → v' = v) (hb : best = -1 ∨ v < bn) (h0 : ∀ m p v, admT s o rd st fb le (pthS s o rd st).length m p v → 0 ≤ 5 * m + p) : pkI s o rd st fb le (i + 1) i v := by
  refine Or.inr ⟨m, p, hi.symm, by omega, hy, fun m' p' v' q z => ?_⟩
  by_cases e : 5 * m' + p' = i
  · have := hu m' p' v' q e; omega
  · rcases h with ⟨-, h2⟩ | ⟨m2, p2, h1, h2, h3, h4⟩
    · have := h2 m' p' v' q; omega
    · have := h4 m' p' v' q (by omega)
      have := h0 _ _ _ h3
      omega
theorem pkI.pck (hA : WfA s) (hO : WfO s) (hr : ∀ i : Nat, i < (pthS s o rd st).length → 0 ≤ pthF s o rd st i ∧ pthF s o rd st i < s 1) (h : pkI s o rd st fb le 20 best bn) : (best = -1 ∧ ∀ m p v, ¬ admT s o rd st fb le (pthS s o rd st).length m p v) ∨ ∃ m p, best = 5 * m + p ∧ (0 ≤ m ∧ m ≤ 3) ∧ (0 ≤ p ∧ p + 1 < sOn s m) ∧ sOn s m ≤ 5 ∧ pckT s o rd st fb le (pthS s o rd st).length m p bn := by
  have rg : ∀ m p v, admT s o rd st fb le (pthS s o rd st).length m p v → (0 ≤ m ∧ m ≤ 3) ∧ (0 ≤ p ∧ p + 1 < sOn s m) ∧ sOn s m ≤ 5 := fun m p v q => by
    obtain ⟨q1, q2, -⟩ := (adm_iff hA hO hr).mp q
    exact ⟨q1, q2, (hO m q1.1 q1.2).1.2⟩
  rcases h with ⟨h1, h2⟩ | ⟨m, p, h1, h2, h3, h4⟩
  · exact Or.inl ⟨h1, fun m p v q => by have := h2 m p v q; have := rg m p v q; omega⟩
  · obtain ⟨r1, r2, r3⟩ := rg _ _ _ h3
    refine Or.inr ⟨m, p, h1, r1, r2, r3, h3, fun m' p' v' q => ?_⟩
    obtain ⟨t1, t2, t3⟩ := rg _ _ _ q
    have := h4 m' p' v' q (by omega)
    omega
end PkI
