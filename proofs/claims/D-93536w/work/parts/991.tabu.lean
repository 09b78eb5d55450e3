/-! ===== tabu search: what a step may choose, as relations (plain) ===== -/
theorem pthO_nx {s o rd st : Nat → Int} : ∀ (n : Nat) (k : Int) (j : Nat) (x y : Int), (pthO s o rd st n k)[j]? = some x → (pthO s o rd st n k)[j + 1]? = some y → y = nxtO s o rd st x ∧ y ≠ -1
  | 0, k, j, x, y, h, _ => by simp [pthO] at h
  | n + 1, k, j, x, y, h, g => by
    unfold pthO at h g
    by_cases hk : k = -1
    · rw [if_pos hk] at h; simp at h
    · rw [if_neg hk] at h g
      cases j with
      | zero =>
        have hx : k = x := by simpa using h
        subst hx
        have g : (pthO s o rd st n (nxtO s o rd st k))[0]? = some y := g
        cases n with
        | zero => simp [pthO] at g
        | succ n =>
          unfold pthO at g
          by_cases hz : nxtO s o rd st k = -1
          · rw [if_pos hz] at g; simp at g
          · rw [if_neg hz] at g
            have hy : nxtO s o rd st k = y := by simpa using g
            exact ⟨hy.symm, by rw [← hy]; exact hz⟩
      | succ j =>
        have h : (pthO s o rd st n (nxtO s o rd st k))[j]? = some x := h
        have g : (pthO s o rd st n (nxtO s o rd st k))[j + 1]? = some y := g
        exact pthO_nx n _ j x y h g
/-- consecutive operations of the path -/
theorem pthF_nx {s o rd st : Nat → Int} {i : Nat} (hi : i + 1 < (pthS s o rd st).length) : pthF s o rd st i = nxtO s o rd st (pthF s o rd st (i + 1)) ∧ pthF s o rd st i ≠ -1 := by
  have h1 : (pthS s o rd st)[(pthS s o rd st).length - 1 - (i + 1)]? = some (pthF s o rd st (i + 1)) := by
    unfold pthF
    rw [List.getElem?_eq_getElem (by omega)]
    rfl
  have h2 : (pthS s o rd st)[(pthS s o rd st).length - 1 - (i + 1) + 1]? = some (pthF s o rd st i) := by
    unfold pthF
    rw [show (pthS s o rd st).length - 1 - (i + 1) + 1 = (pthS s o rd st).length - 1 - i by omega, List.getElem?_eq_getElem (by omega)]
    rfl
  exact pthO_nx 21 _ _ _ _ h1 h2
/-- two of one machine that follow each other on the path follow each other in its order -/
theorem pthF_adj {s o rd st : Nat → Int} (hA : WfA s) (hO : WfO s) {i : Nat} (hi : i + 1 < (pthS s o rd st).length) (hr : 0 ≤ pthF s o rd st (i + 1) ∧ pthF s o rd st (i + 1) < s 1) (hm : sMc s (pthF s o rd st i) = sMc s (pthF s o rd st (i + 1))) :
    ∃ p : Int, 0 ≤ p ∧ p + 1 < sOn s (sMc s (pthF s o rd st i)) ∧ sPos s (pthF s o rd st i) = p ∧ sPos s (pthF s o rd st (i + 1)) = p + 1 ∧ sOr s (sMc s (pthF s o rd st i)) p = pthF s o rd st i ∧ sOr s (sMc s (pthF s o rd st i)) (p + 1) = pthF s o rd st (i + 1) := by
  obtain ⟨hn, hne⟩ := pthF_nx hi
  generalize pthF s o rd st i = a at *
  generalize pthF s o rd st (i + 1) = c at *
  have hc := (hA.2.1.2 c hr.1 hr.2).2.1
  have key : a = sAh s o c ∧ sAh s o c ≠ -1 := by
    unfold nxtO at hn
    by_cases q1 : sBef s c ≠ -1 ∧ st (sBef s c).toNat + sDu s (sBef s c) = rd c.toNat
    · rw [if_pos q1] at hn
      obtain ⟨b1, b2, b3⟩ := (sBef_ok hA hr.1 hr.2).resolve_left q1.1
      have := hA.2.2.2.1 (sBef s c) c b1.1 b1.2 hr.1 hr.2 b2 (by rw [← hn]; exact hm)
      rw [this] at b3
      omega
    · rw [if_neg q1] at hn
      by_cases q2 : sAh s o c ≠ -1 ∧ st (sAh s o c).toNat + sDu s (sAh s o c) + sSu s (sAh s o c) c = rd c.toNat
      · rw [if_pos q2] at hn
        exact ⟨hn, q2.1⟩
      · rw [if_neg q2] at hn
        exact absurd hn hne
  obtain ⟨a1, a2, a3, a4, a5⟩ := (sAh_ok hA hO hr.1 hr.2).resolve_left key.2
  rw [← key.1] at a2 a3 a5
  obtain ⟨⟨p1, p2, p3⟩, p4⟩ := hO.pos hr hc
  obtain ⟨⟨r1, r2, r3⟩, r4⟩ := hO.pos a2 (by rw [a3]; exact hc)
  rw [hm]
  rw [hm] at r2 r4
  exact ⟨sPos s c - 1, by omega, by omega, a5, by omega, by rw [← a5]; exact r2, by rw [show sPos s c - 1 + 1 = sPos s c by omega]; exact p2⟩
/-- a swap that may be made: the i-th pair of the path, below n; fb: which pairs are forbidden; le: the least makespan so far -/
def admT (s o rd st : Nat → Int) (fb : Int → Int → Prop) (le : Int) (n : Nat) (m p v : Int) : Prop := ∃ i : Nat, i + 1 < n ∧ sMc s (pthF s o rd st i) = m ∧ sMc s (pthF s o rd st (i + 1)) = m ∧ sPos s (pthF s o rd st i) = p ∧ MkR (sXc s m p) o v ∧ 0 ≤ v ∧ (¬ fb (pthF s o rd st i) (pthF s o rd st (i + 1)) ∨ v < le)
/-- the best of them -/
def pckT (s o rd st : Nat → Int) (fb : Int → Int → Prop) (le : Int) (n : Nat) (m p v : Int) : Prop := admT s o rd st fb le n m p v ∧ ∀ m' p' v', admT s o rd st fb le n m' p' v' → v < v' ∨ (v = v' ∧ (m < m' ∨ (m = m' ∧ p ≤ p')))
/-- the search's numbers after n operations of the path -/
def pckX (s o rd st : Nat → Int) (fb : Int → Int → Prop) (le : Int) (n : Nat) (x : Nat → Int) : Prop := (x 3 = -1 ∧ ∀ m p v, ¬ admT s o rd st fb le n m p v) ∨ (x 3 ≠ -1 ∧ pckT s o rd st fb le n (x 3) (x 4) (x 5))
theorem admT_s {s o rd st : Nat → Int} {fb : Int → Int → Prop} {le : Int} {n : Nat} {m p v : Int} : admT s o rd st fb le (n + 2) m p v ↔ admT s o rd st fb le (n + 1) m p v ∨ (sMc s (pthF s o rd st n) = m ∧ sMc s (pthF s o rd st (n + 1)) = m ∧ sPos s (pthF s o rd st n) = p ∧ MkR (sXc s m p) o v ∧ 0 ≤ v ∧ (¬ fb (pthF s o rd st n) (pthF s o rd st (n + 1)) ∨ v < le)) := by
  constructor
  · rintro ⟨i, h1, h2⟩
    by_cases e : i = n
    · subst e; exact Or.inr h2
    · exact Or.inl ⟨i, by omega, h2⟩
  · rintro (⟨i, h1, h2⟩ | h2)
    · exact ⟨i, by omega, h2⟩
    · exact ⟨n, by omega, h2⟩
theorem pckX.skip {s o rd st : Nat → Int} {fb : Int → Int → Prop} {le : Int} {n : Nat} {x : Nat → Int} (h : pckX s o rd st fb le (n + 1) x) (hne : sMc s (pthF s o rd st n) ≠ sMc s (pthF s o rd st (n + 1))) : pckX s o rd st fb le (n + 2) x := by
  have e : ∀ m p v, admT s o rd st fb le (n + 2) m p v ↔ admT s o rd st fb le (n + 1) m p v := fun m p v => by
    rw [admT_s]
    constructor
    · rintro (h | ⟨h1, h2, -⟩)
      · exact h
      · exact absurd (h1.trans h2.symm) hne
    · exact Or.inl
  rcases h with ⟨h1, h2⟩ | ⟨h0, h1, h2⟩
  · exact Or.inl ⟨h1, fun m p v q => h2 m p v ((e m p v).mp q)⟩
  · exact Or.inr ⟨h0, (e _ _ _).mpr h1, fun m' p' v' q => h2 m' p' v' ((e _ _ _).mp q)⟩
theorem pckX.try {s o rd st : Nat → Int} (hA : WfA s) (hO : WfO s) {fb : Int → Int → Prop} {le : Int} {n : Nat} {x : Nat → Int} {m p v fv : Int} (h : pckX s o rd st fb le (n + 1) x) (hl : x 1 = le) (h1 : sMc s (pthF s o rd st n) = m) (h2 : sMc s (pthF s o rd st (n + 1)) = m) (h3 : sPos s (pthF s o rd st n) = p) (hmk : MkR (sXc s m p) o v) (hsw : WfA (sXc s m p) ∧ WfO (sXc s m p)) (hm : 0 ≤ m) (hf : fv = 0 ↔ ¬ fb (pthF s o rd st n) (pthF s o rd st (n + 1))) : pckX s o rd st fb le (n + 2) (tryX x m p v fv) := by
  have e : ∀ m' p' v', admT s o rd st fb le (n + 2) m' p' v' ↔ admT s o rd st fb le (n + 1) m' p' v' ∨ (m' = m ∧ p' = p ∧ v' = v ∧ 0 ≤ v ∧ (fv = 0 ∨ v < le)) := fun m' p' v' => by
    rw [admT_s]
    constructor
    · rintro (q | ⟨q1, q2, q3, q4, q5, q6⟩)
      · exact Or.inl q
      · have e1 : m' = m := q1.symm.trans h1
        have e2 : p' = p := q3.symm.trans h3
        subst e1; subst e2
        have e3 : v' = v := q4.uniq hsw.1 hsw.2 hmk
        subst e3
        exact Or.inr ⟨rfl, rfl, rfl, q5, q6.imp hf.mpr id⟩
    · rintro (q | ⟨rfl, rfl, rfl, q5, q6⟩)
      · exact Or.inl q
      · exact Or.inr ⟨h1, h2, h3, hmk, q5, q6.imp hf.mp id⟩
  by_cases hy : 0 ≤ v ∧ (fv = 0 ∨ v < x 1) ∧ (x 3 = -1 ∨ isB x v m p)
  · rw [tryX_y hy]
    have e3 : sup (sup (sup x 3 m) 4 p) 5 v 3 = m := by rw [sup_n (by decide), sup_n (by decide), sup_s]
    have e4 : sup (sup (sup x 3 m) 4 p) 5 v 4 = p := by rw [sup_n (by decide), sup_s]
    have e5 : sup (sup (sup x 3 m) 4 p) 5 v 5 = v := sup_s
    right
    rw [e3, e4, e5]
    refine ⟨by omega, (e _ _ _).mpr (Or.inr ⟨rfl, rfl, rfl, hy.1, by rw [← hl]; exact hy.2.1⟩), fun m' p' v' q => ?_⟩
    rcases (e _ _ _).mp q with q | ⟨rfl, rfl, rfl, -⟩
    · rcases h with ⟨g1, g2⟩ | ⟨g0, g1, g2⟩
      · exact absurd q (g2 _ _ _)
      · have := g2 _ _ _ q
        rcases hy.2.2 with z | z
        · omega
        · unfold isB at z; omega
    · omega
  · rw [tryX_n hy]
    rcases h with ⟨g1, g2⟩ | ⟨g0, g1, g2⟩
    · refine Or.inl ⟨g1, fun m' p' v' q => ?_⟩
      rcases (e _ _ _).mp q with q | ⟨rfl, rfl, rfl, q4, q5⟩
      · exact g2 _ _ _ q
      · exact hy ⟨q4, by rw [hl]; exact q5, Or.inl g1⟩
    · refine Or.inr ⟨g0, (e _ _ _).mpr (Or.inl g1), fun m' p' v' q => ?_⟩
      rcases (e _ _ _).mp q with q | ⟨rfl, rfl, rfl, q4, q5⟩
      · exact g2 _ _ _ q
      · have : ¬ isB x v' m' p' := fun z => hy ⟨q4, by rw [hl]; exact q5, Or.inr z⟩
        unfold isB at this
        omega
theorem pckT.uniq {s o rd st : Nat → Int} {fb : Int → Int → Prop} {le : Int} {n : Nat} {m p v m' p' v' : Int} (h : pckT s o rd st fb le n m p v) (g : pckT s o rd st fb le n m' p' v') : m = m' ∧ p = p' ∧ v = v' := by
  have h1 := h.2 _ _ _ g.1
  have g1 := g.2 _ _ _ h.1
  omega
/-- by the steps that put one before the other: the latest, from 1 on; 0: none -/
def laU (la : Int → Int → Int) (a c v : Int) : Int → Int → Int := fun x y => if x = a ∧ y = c then v else la x y
def fbL (la : Int → Int → Int) (k ten : Int) (a c : Int) : Prop := 0 < la a c ∧ k + 1 - ten ≤ la a c
/-- the search: s the row, la what was made, le the least makespan, bs its row, k the steps made; ends with bs', k' -/
def tbR (ten most : Int) : Nat → (Nat → Int) → (Int → Int → Int) → Int → (Nat → Int) → Int → (Nat → Int) → Int → Prop
  | 0, _, _, _, _, _, _, _ => False
  | n + 1, s, la, le, bs, k, bs', k' => (most ≤ k ∧ bs' = bs ∧ k' = k) ∨ (k < most ∧ ∃ rd st, Tp s (oB 0) (-1) 0 rd st ∧ Tq s (oB 0) st ∧
    (((∀ m p v, ¬ admT s (oB 0) rd st (fbL la k ten) le (pthS s (oB 0) rd st).length m p v) ∧ bs' = bs ∧ k' = k) ∨
    ∃ m p v, pckT s (oB 0) rd st (fbL la k ten) le (pthS s (oB 0) rd st).length m p v ∧ tbR ten most n (sXc s m p) (laU la (sOr s m (p + 1)) (sOr s m p) (k + 1)) (if v < le then v else le) (if v < le then sXc s m p else bs) (k + 1) bs' k'))
def laN (F G : Nat → Int) : Nat → Int → Int → Int
  | 0 => fun _ _ => 0
  | n + 1 => laU (laN F G n) (F n) (G n) (n + 1)
theorem laN_s {F G : Nat → Int} {n : Nat} {a c : Int} : laN F G (n + 1) a c = if a = F n ∧ c = G n then (n : Int) + 1 else laN F G n a c := rfl
theorem laN_r (F G : Nat → Int) (a c : Int) : ∀ n : Nat, 0 ≤ laN F G n a c ∧ laN F G n a c ≤ n
  | 0 => ⟨Int.le_refl _, Int.le_refl _⟩
  | n + 1 => by
    have := laN_r F G a c n
    rw [laN_s]
    split <;> omega
theorem laN_congr {F G F' G' : Nat → Int} : ∀ n : Nat, (∀ i, i < n → F i = F' i ∧ G i = G' i) → laN F G n = laN F' G' n
  | 0, _ => rfl
  | n + 1, h => by
    show laU (laN F G n) (F n) (G n) (n + 1) = laU (laN F' G' n) (F' n) (G' n) (n + 1)
    rw [laN_congr n (fun i hi => h i (by omega)), (h n (by omega)).1, (h n (by omega)).2]
theorem fbN_la {F G T : Nat → Int} {a c d : Int} : ∀ n : Nat, (∀ i, i < n → T i = i) → (fbN F G T c a d n = 1 ↔ 0 < laN F G n a c ∧ d + 1 ≤ laN F G n a c)
  | 0, _ => by
    show (0 : Int) = 1 ↔ 0 < (0 : Int) ∧ d + 1 ≤ (0 : Int)
    omega
  | n + 1, h => by
    have ih := fbN_la (F := F) (G := G) (T := T) (a := a) (c := c) (d := d) n (fun i hi => h i (by omega))
    have hr := laN_r F G a c n
    have ht := h n (by omega)
    show (if fbN F G T c a d n = 1 ∨ (F n = a ∧ G n = c ∧ d ≤ T n) then (1 : Int) else 0) = 1 ↔ _
    rw [laN_s, ht]
    by_cases q : fbN F G T c a d n = 1 ∨ (F n = a ∧ G n = c ∧ d ≤ (n : Int))
    · rw [if_pos q]
      refine ⟨fun _ => ?_, fun _ => rfl⟩
      by_cases e : a = F n ∧ c = G n
      · rw [if_pos e]
        rcases q with q | q
        · have := ih.mp q; omega
        · omega
      · rw [if_neg e]
        rcases q with q | q
        · exact ih.mp q
        · exact absurd ⟨q.1.symm, q.2.1.symm⟩ e
    · rw [if_neg q]
      refine ⟨fun z => by omega, fun z => ?_⟩
      by_cases e : a = F n ∧ c = G n
      · rw [if_pos e] at z
        exact absurd (Or.inr ⟨e.1.symm, e.2.symm, by omega⟩) q
      · rw [if_neg e] at z
        exact absurd (Or.inl (ih.mpr z)) q
