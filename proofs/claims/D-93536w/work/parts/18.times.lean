/-! ===== schedules: how they are built, that they are unique ===== -/
def sup (f : Nat → Int) (k : Nat) (v : Int) : Nat → Int := fun i => if i = k then v else f i
theorem sup_s {f : Nat → Int} {k : Nat} {v : Int} : sup f k v k = v := by simp [sup]
theorem sup_n {f : Nat → Int} {k i : Nat} {v : Int} (h : i ≠ k) : sup f k v i = f i := by simp [sup, h]
/-- the reference's world with other times -/
def wt (w : tW) (rd st : Nat → Int) : tW := fun f i => if f = 11 then rd i else if f = 12 then st i else w f i
theorem wt_o {w : tW} {rd st : Nat → Int} {f : Nat} (h1 : f ≠ 11) (h2 : f ≠ 12) : wt w rd st f = w f := by funext i; simp [wt, h1, h2]
theorem wt_self (w : tW) : wt w (w 11) (w 12) = w := by
  funext f i
  unfold wt
  by_cases h1 : f = 11
  · rw [if_pos h1, h1]
  · by_cases h2 : f = 12
    · rw [if_neg h1, if_pos h2, h2]
    · rw [if_neg h1, if_neg h2]
theorem wt_11 {w : tW} {rd st : Nat → Int} {i : Nat} {v : Int} : tset (wt w rd st) 11 i v = wt w (sup rd i v) st := by
  funext f j
  unfold tset wt sup
  by_cases h1 : f = 11
  · subst h1
    by_cases h2 : j = i <;> simp [h2]
  · simp [h1]
theorem wt_12 {w : tW} {rd st : Nat → Int} {i : Nat} {v : Int} : tset (wt w rd st) 12 i v = wt w rd (sup st i v) := by
  funext f j
  unfold tset wt sup
  by_cases h1 : f = 12
  · subst h1
    by_cases h2 : j = i <;> simp [h2]
  · simp [h1]
theorem wt_w {w : tW} {rd st rd' st' : Nat → Int} : wt (wt w rd st) rd' st' = wt w rd' st' := by
  funext f j
  unfold wt
  by_cases h1 : f = 11
  · simp [h1]
  · by_cases h2 : f = 12
    · simp [h2]
    · simp [h1, h2]
/-- how many of the first n have no time -/
def cntU (st : Nat → Int) : Nat → Int
  | 0 => 0
  | n + 1 => cntU st n + (if st n < 0 then 1 else 0)
theorem cntU_r (st : Nat → Int) (n : Nat) : 0 ≤ cntU st n ∧ cntU st n ≤ n := by
  induction n with
  | zero => simp [cntU]
  | succ n ih => unfold cntU; split <;> omega
theorem cntU_all {st : Nat → Int} {n : Nat} (h : ∀ i, i < n → st i < 0) : cntU st n = n := by
  induction n with
  | zero => rfl
  | succ n ih => unfold cntU; rw [ih (fun i hi => h i (by omega)), if_pos (h n (by omega))]; omega
theorem cntU_0 {st : Nat → Int} {n : Nat} : cntU st n = 0 ↔ ∀ i, i < n → 0 ≤ st i := by
  induction n with
  | zero => exact ⟨fun _ i hi => by omega, fun _ => rfl⟩
  | succ n ih =>
    have hr := cntU_r st n
    unfold cntU
    constructor
    · intro h i hi
      split at h
      · omega
      · next hn =>
        rcases (by omega : i = n ∨ i < n) with q | q
        · subst q; omega
        · exact ih.mp (by omega) i q
    · intro h
      rw [ih.mpr (fun i hi => h i (by omega)), if_neg (by have := h n (by omega); omega)]
      rfl
theorem cntU_ext {f g : Nat → Int} {n : Nat} (h : ∀ i, i < n → (f i < 0 ↔ g i < 0)) : cntU f n = cntU g n := by
  induction n with
  | zero => rfl
  | succ n ih =>
    unfold cntU
    rw [ih (fun i hi => h i (by omega))]
    by_cases q : f n < 0
    · rw [if_pos q, if_pos ((h n (by omega)).mp q)]
    · rw [if_neg q, if_neg (fun e => q ((h n (by omega)).mpr e))]
theorem cntU_sup {st : Nat → Int} {n k : Nat} {v : Int} (hk : k < n) (h0 : st k < 0) (hv : 0 ≤ v) : cntU (sup st k v) n = cntU st n - 1 := by
  induction n with
  | zero => omega
  | succ n ih =>
    unfold cntU
    by_cases q : k = n
    · subst q
      rw [sup_s, if_neg (by omega), if_pos h0, cntU_ext (g := st) (fun i hi => by rw [sup_n (by omega)])]
      omega
    · rw [sup_n (by omega), ih (by omega)]
      omega
theorem sRdy_ext {s o : Nat → Int} {f g : Int → Int} {k : Int} (hb : sBef s k = -1 ∨ f (sBef s k) = g (sBef s k)) (ha : sAh s o k = -1 ∨ f (sAh s o k) = g (sAh s o k)) : sRdy s o f k = sRdy s o g k := by
  unfold sRdy
  have e1 : (if sBef s k = -1 then sRel s (sJb s k) else f (sBef s k) + sDu s (sBef s k)) = (if sBef s k = -1 then sRel s (sJb s k) else g (sBef s k) + sDu s (sBef s k)) := by
    rcases hb with h | h
    · rw [if_pos h, if_pos h]
    · rw [h]
  have e2 : (if sAh s o k = -1 then sRel s (sJb s k) else f (sAh s o k) + sDu s (sAh s o k) + sSu s (sAh s o k) k) = (if sAh s o k = -1 then sRel s (sJb s k) else g (sAh s o k) + sDu s (sAh s o k) + sSu s (sAh s o k) k) := by
    rcases ha with h | h
    · rw [if_pos h, if_pos h]
    · rw [h]
  rw [e1, e2]
/-- what has a time has it rightly -/
def Tp (s o : Nat → Int) (hd hu : Int) (rd st : Nat → Int) : Prop :=
  ∀ k : Int, 0 ≤ k → k < s 1 → 0 ≤ st k.toNat → (sBef s k = -1 ∨ 0 ≤ st (sBef s k).toNat) ∧ (sAh s o k = -1 ∨ 0 ≤ st (sAh s o k).toNat) ∧ rd k.toNat = sRdy s o (fun i => st i.toNat) k ∧ isFree s (sMc s k) (sFrom hd hu k (rd k.toNat)) (sDu s k) (st k.toNat)
theorem Tp.step {s o : Nat → Int} {hd hu : Int} {rd st : Nat → Int} (hA : WfA s) (hO : WfO s) (h : Tp s o hd hu rd st) {k : Int} (h0 : 0 ≤ k) (h1 : k < s 1) (hst : st k.toNat < 0) (hb : sBef s k = -1 ∨ 0 ≤ st (sBef s k).toNat) (ha : sAh s o k = -1 ∨ 0 ≤ st (sAh s o k).toNat) {v : Int} (hv : isFree s (sMc s k) (sFrom hd hu k (sRdy s o (fun i => st i.toNat) k)) (sDu s k) v) :
    Tp s o hd hu (sup rd k.toNat (sRdy s o (fun i => st i.toNat) k)) (sup st k.toNat v) := by
  intro l l0 l1 hl
  have ne : ∀ i : Nat, 0 ≤ st i → sup st k.toNat v i = st i := fun i hi => sup_n (fun e => by rw [e] at hi; omega)
  by_cases hlk : l = k
  · subst hlk
    have e : sRdy s o (fun i => sup st l.toNat v i.toNat) l = sRdy s o (fun i => st i.toNat) l := by
      refine sRdy_ext ?_ ?_
      · rcases hb with q | q
        · exact Or.inl q
        · exact Or.inr (ne _ q)
      · rcases ha with q | q
        · exact Or.inl q
        · exact Or.inr (ne _ q)
    refine ⟨?_, ?_, ?_, ?_⟩
    · rcases hb with q | q
      · exact Or.inl q
      · exact Or.inr (by rw [ne _ q]; exact q)
    · rcases ha with q | q
      · exact Or.inl q
      · exact Or.inr (by rw [ne _ q]; exact q)
    · rw [sup_s, e]
    · rw [sup_s, sup_s]; exact hv
  · have hn : l.toNat ≠ k.toNat := by omega
    rw [sup_n hn] at hl
    obtain ⟨a1, a2, a3, a4⟩ := h l l0 l1 hl
    have e : sRdy s o (fun i => sup st k.toNat v i.toNat) l = sRdy s o (fun i => st i.toNat) l := by
      refine sRdy_ext ?_ ?_
      · rcases a1 with q | q
        · exact Or.inl q
        · exact Or.inr (ne _ q)
      · rcases a2 with q | q
        · exact Or.inl q
        · exact Or.inr (ne _ q)
    refine ⟨?_, ?_, ?_, ?_⟩
    · rcases a1 with q | q
      · exact Or.inl q
      · exact Or.inr (by rw [ne _ q]; exact q)
    · rcases a2 with q | q
      · exact Or.inl q
      · exact Or.inr (by rw [ne _ q]; exact q)
    · rw [sup_n hn, e]; exact a3
    · rw [sup_n hn, sup_n hn]; exact a4
/-- .. and nothing more can have one -/
def Tq (s o : Nat → Int) (st : Nat → Int) : Prop := ∀ k : Int, 0 ≤ k → k < s 1 → st k.toNat < 0 → (sBef s k ≠ -1 ∧ st (sBef s k).toNat < 0) ∨ (sAh s o k ≠ -1 ∧ st (sAh s o k).toNat < 0)
theorem WfA.su {s : Nat → Int} (hA : WfA s) {a b : Int} (ha : 0 ≤ a ∧ a < s 1) (hb : 0 ≤ b ∧ b < s 1) : (0 ≤ sFa s a ∧ sFa s a ≤ 2) ∧ (0 ≤ sFa s b ∧ sFa s b ≤ 2) ∧ 0 ≤ sSu s a b ∧ sSu s a b ≤ 9 := by
  obtain ⟨-, hK, -, -, hT, -⟩ := hA
  obtain ⟨-, -, -, fa, -⟩ := hK.2 a ha.1 ha.2
  obtain ⟨-, -, -, fb, -⟩ := hK.2 b hb.1 hb.2
  have := hT (3 * sFa s a + sFa s b) (by omega) (by omega)
  rw [← Int.add_assoc] at this
  exact ⟨fa, fb, this⟩
/-- the ready time lies behind those ahead -/
theorem sRdy_ge {s o : Nat → Int} {f : Int → Int} {k : Int} : sRel s (sJb s k) ≤ sRdy s o f k ∧ (sBef s k ≠ -1 → f (sBef s k) + sDu s (sBef s k) ≤ sRdy s o f k) ∧ (sAh s o k ≠ -1 → f (sAh s o k) + sDu s (sAh s o k) + sSu s (sAh s o k) k ≤ sRdy s o f k) := by
  unfold sRdy
  refine ⟨by omega, fun h => ?_, fun h => ?_⟩
  · rw [if_neg h]; omega
  · rw [if_neg h]; omega
/-- times rise along the arrows -/
theorem Tp.lt {s o : Nat → Int} {hd hu : Int} {rd st : Nat → Int} (hA : WfA s) (hO : WfO s) (h : Tp s o hd hu rd st) {k : Int} (h0 : 0 ≤ k) (h1 : k < s 1) (hs : 0 ≤ st k.toNat) : (sBef s k ≠ -1 → st (sBef s k).toNat < st k.toNat) ∧ (sAh s o k ≠ -1 → st (sAh s o k).toNat < st k.toNat) := by
  obtain ⟨a1, a2, a3, a4⟩ := h k h0 h1 hs
  have hr : rd k.toNat ≤ st k.toNat := by
    refine Int.le_trans ?_ a4.1
    unfold sFrom
    split <;> omega
  obtain ⟨-, g1, g2⟩ := sRdy_ge (s := s) (o := o) (f := fun i => st i.toNat) (k := k)
  constructor
  · intro hb
    have g1 := g1 hb
    obtain ⟨hb1, -⟩ := (sBef_ok hA h0 h1).resolve_left hb
    have := ((hA.2.1.2 _ hb1.1 hb1.2).2.2.1).1
    rw [a3] at hr
    try dsimp only at g1
    omega
  · intro hb
    have g2 := g2 hb
    obtain ⟨-, hb1, -⟩ := (sAh_ok hA hO h0 h1).resolve_left hb
    have := ((hA.2.1.2 _ hb1.1 hb1.2).2.2.1).1
    have := (hA.su hb1 ⟨h0, h1⟩).2.2
    rw [a3] at hr
    try dsimp only at g2
    omega
/-- two schedules of the same orders are the same -/
theorem Tp.uniq {s o : Nat → Int} {hd hu : Int} {rd st rd' st' : Nat → Int} (hA : WfA s) (hO : WfO s) (h : Tp s o hd hu rd st) (g : Tp s o hd hu rd' st') (gq : Tq s o st') : ∀ (n : Nat) (k : Int), 0 ≤ k → k < s 1 → 0 ≤ st k.toNat → (st k.toNat).toNat < n → st' k.toNat = st k.toNat ∧ rd' k.toNat = rd k.toNat := by
  intro n
  induction n with
  | zero => intro k _ _ _ h; omega
  | succ n ih =>
    intro k k0 k1 hs hn
    obtain ⟨a1, a2, a3, a4⟩ := h k k0 k1 hs
    obtain ⟨l1, l2⟩ := h.lt hA hO k0 k1 hs
    have e1 : sBef s k = -1 ∨ (0 ≤ st (sBef s k).toNat ∧ st' (sBef s k).toNat = st (sBef s k).toNat) := by
      by_cases q : sBef s k = -1
      · exact Or.inl q
      · obtain ⟨hb1, -⟩ := (sBef_ok hA k0 k1).resolve_left q
        have := l1 q
        have h9 := a1.resolve_left q
        exact Or.inr ⟨h9, (ih _ hb1.1 hb1.2 h9 (by omega)).1⟩
    have e2 : sAh s o k = -1 ∨ (0 ≤ st (sAh s o k).toNat ∧ st' (sAh s o k).toNat = st (sAh s o k).toNat) := by
      by_cases q : sAh s o k = -1
      · exact Or.inl q
      · obtain ⟨-, hb1, -⟩ := (sAh_ok hA hO k0 k1).resolve_left q
        have := l2 q
        have h9 := a2.resolve_left q
        exact Or.inr ⟨h9, (ih _ hb1.1 hb1.2 h9 (by omega)).1⟩
    have hp : 0 ≤ st' k.toNat := by
      rcases Int.lt_or_le (st' k.toNat) 0 with q | q
      · rcases gq k k0 k1 q with ⟨c1, c2⟩ | ⟨c1, c2⟩
        · have := e1.resolve_left c1; omega
        · have := e2.resolve_left c1; omega
      · exact q
    obtain ⟨-, -, b3, b4⟩ := g k k0 k1 hp
    have er : sRdy s o (fun i => st' i.toNat) k = sRdy s o (fun i => st i.toNat) k := sRdy_ext (e1.imp id And.right) (e2.imp id And.right)
    have hrd : rd' k.toNat = rd k.toNat := by rw [b3, a3, er]
    refine ⟨?_, hrd⟩
    rw [hrd] at b4
    exact b4.uniq a4
/-- there is a free time -/
theorem isFree.ex {s : Nat → Int} (hB : WfB s) {m f d : Int} (hm : 0 ≤ m ∧ m ≤ 3) : ∃ v, isFree s m f d v := by
  have : ∀ (n : Nat) (t : Int), f ≤ t → (460 - t).toNat < n → (∀ u : Int, f ≤ u → u < t → ∃ i : Int, 0 ≤ i ∧ i < sBn s m ∧ hind s m d u i) → ∃ v, isFree s m f d v := by
    intro n
    induction n with
    | zero => intro t _ h; omega
    | succ n ih =>
      intro t ht hn hu
      by_cases q : ∃ i : Int, 0 ≤ i ∧ i < sBn s m ∧ hind s m d t i
      · obtain ⟨i, i0, i1, h1, h2⟩ := q
        have hb := (hB m hm.1 hm.2).2 i i0 i1
        refine ih (sBf s m i + sBl s m i) (by omega) (by omega) (fun u u0 u1 => ?_)
        rcases Int.lt_or_le u t with c | c
        · exact hu u u0 c
        · exact ⟨i, i0, i1, by omega, u1⟩
      · exact ⟨t, ht, fun i i0 i1 hh => q ⟨i, i0, i1, hh⟩, hu⟩
  exact this ((460 - f).toNat + 1) f (Int.le_refl _) (by omega) (fun u h1 h2 => by omega)
theorem sFree_ok {s : Nat → Int} (hB : WfB s) {m f d : Int} (hm : 0 ≤ m ∧ m ≤ 3) : isFree s m f d (sFree s m f d) := by
  obtain ⟨v, hv⟩ := isFree.ex hB (f := f) (d := d) hm
  rw [hv.eq]
  exact hv
