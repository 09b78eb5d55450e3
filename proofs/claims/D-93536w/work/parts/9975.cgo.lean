/-! ===== only which of the four machines are open counts; paths by equal times (plain) ===== -/
theorem sAh_cg {s o o' : Nat → Int} (hA : WfA s) (h : ∀ m : Nat, m < 4 → o m = o' m) {k : Int} (h0 : 0 ≤ k) (h1 : k < s 1) : sAh s o k = sAh s o' k := by
  have hm := (hA.2.1.2 k h0 h1).2.1
  unfold sAh
  rw [h (sMc s k).toNat (by omega)]
theorem sRdy_cg {s o o' : Nat → Int} (hA : WfA s) (h : ∀ m : Nat, m < 4 → o m = o' m) {k : Int} (h0 : 0 ≤ k) (h1 : k < s 1) {f : Int → Int} : sRdy s o f k = sRdy s o' f k := by
  unfold sRdy
  rw [sAh_cg hA h h0 h1]
theorem Tp.cg {s o o' : Nat → Int} (hA : WfA s) (h : ∀ m : Nat, m < 4 → o m = o' m) {hd hu : Int} {rd st : Nat → Int} (t : Tp s o hd hu rd st) : Tp s o' hd hu rd st := by
  intro k h0 h1 h2
  have q := t k h0 h1 h2
  rw [sAh_cg hA h h0 h1, sRdy_cg hA h h0 h1] at q
  exact q
theorem Tq.cg {s o o' : Nat → Int} (hA : WfA s) (h : ∀ m : Nat, m < 4 → o m = o' m) {st : Nat → Int} (t : Tq s o st) : Tq s o' st := by
  intro k h0 h1 h2
  have q := t k h0 h1 h2
  rw [sAh_cg hA h h0 h1] at q
  exact q
theorem MkR.cg {s o o' : Nat → Int} (hA : WfA s) (h : ∀ m : Nat, m < 4 → o m = o' m) {v : Int} (t : MkR s o v) : MkR s o' v := by
  obtain ⟨rd, st, h1, h2, h3⟩ := t
  exact ⟨rd, st, h1.cg hA h, h2.cg hA h, h3⟩
theorem nxtO_cg {s o o' rd st rd' st' : Nat → Int} (hA : WfA s) (hO : WfO s) (h : ∀ m : Nat, m < 4 → o m = o' m) (ht : ∀ k : Int, 0 ≤ k → k < s 1 → rd k.toNat = rd' k.toNat ∧ st k.toNat = st' k.toNat) {k : Int} (h0 : 0 ≤ k) (h1 : k < s 1) : nxtO s o rd st k = nxtO s o' rd' st' k ∧ (nxtO s o rd st k = -1 ∨ (0 ≤ nxtO s o rd st k ∧ nxtO s o rd st k < s 1)) := by
  have a := sBef_ok hA h0 h1
  have b := sAh_ok (o := o) hA hO h0 h1
  have e := sAh_cg hA h h0 h1
  have er := (ht k h0 h1).1
  have c1 : (sBef s k ≠ -1 ∧ st (sBef s k).toNat + sDu s (sBef s k) = rd k.toNat) ↔ (sBef s k ≠ -1 ∧ st' (sBef s k).toNat + sDu s (sBef s k) = rd' k.toNat) := by
    by_cases q : sBef s k = -1
    · exact ⟨fun z => absurd q z.1, fun z => absurd q z.1⟩
    · obtain ⟨a1, -⟩ := a.resolve_left q
      rw [er, (ht _ a1.1 a1.2).2]
  have c2 : (sAh s o k ≠ -1 ∧ st (sAh s o k).toNat + sDu s (sAh s o k) + sSu s (sAh s o k) k = rd k.toNat) ↔ (sAh s o k ≠ -1 ∧ st' (sAh s o k).toNat + sDu s (sAh s o k) + sSu s (sAh s o k) k = rd' k.toNat) := by
    by_cases q : sAh s o k = -1
    · exact ⟨fun z => absurd q z.1, fun z => absurd q z.1⟩
    · obtain ⟨-, a1, -⟩ := b.resolve_left q
      rw [er, (ht _ a1.1 a1.2).2]
  unfold nxtO
  rw [← e]
  by_cases q1 : sBef s k ≠ -1 ∧ st (sBef s k).toNat + sDu s (sBef s k) = rd k.toNat
  · rw [if_pos q1, if_pos (c1.mp q1)]
    exact ⟨rfl, Or.inr (a.resolve_left q1.1).1⟩
  · rw [if_neg q1, if_neg (fun z => q1 (c1.mpr z))]
    by_cases q2 : sAh s o k ≠ -1 ∧ st (sAh s o k).toNat + sDu s (sAh s o k) + sSu s (sAh s o k) k = rd k.toNat
    · rw [if_pos q2, if_pos (c2.mp q2)]
      exact ⟨rfl, Or.inr (b.resolve_left q2.1).2.1⟩
    · rw [if_neg q2, if_neg (fun z => q2 (c2.mpr z))]
      exact ⟨rfl, Or.inl rfl⟩
theorem pthO_cg {s o o' rd st rd' st' : Nat → Int} (hA : WfA s) (hO : WfO s) (h : ∀ m : Nat, m < 4 → o m = o' m) (ht : ∀ k : Int, 0 ≤ k → k < s 1 → rd k.toNat = rd' k.toNat ∧ st k.toNat = st' k.toNat) : ∀ (n : Nat) (k : Int), (k = -1 ∨ (0 ≤ k ∧ k < s 1)) → pthO s o rd st n k = pthO s o' rd' st' n k
  | 0, _, _ => rfl
  | n + 1, k, hk => by
    unfold pthO
    by_cases e : k = -1
    · rw [if_pos e, if_pos e]
    · obtain ⟨h0, h1⟩ := hk.resolve_left e
      obtain ⟨e1, e2⟩ := nxtO_cg hA hO h ht h0 h1
      rw [if_neg e, if_neg e, ← e1, pthO_cg hA hO h ht n _ e2]
theorem lstO_cg {s st st' : Nat → Int} (ht : ∀ k : Int, 0 ≤ k → k < s 1 → st k.toNat = st' k.toNat) : ∀ n : Nat, (n : Int) ≤ s 1 → lstO s st n = lstO s st' n ∧ (lstO s st n = -1 ∨ (0 ≤ lstO s st n ∧ lstO s st n < n))
  | 0, _ => ⟨rfl, Or.inl rfl⟩
  | n + 1, h => by
    obtain ⟨h1, h2⟩ := lstO_cg ht n (by omega)
    have h3 := lstO_r s st (n + 1)
    refine ⟨?_, by omega⟩
    have e1 : st n = st' n := ht n (by omega) (by omega)
    unfold lstO
    rw [← h1, ← e1]
    by_cases q : lstO s st n = -1
    · rw [if_pos (Or.inl q), if_pos (Or.inl q)]
    · rw [← ht (lstO s st n) (by omega) (by omega)]
theorem pthS_cg {s o o' rd st rd' st' : Nat → Int} (hA : WfA s) (hO : WfO s) (h : ∀ m : Nat, m < 4 → o m = o' m) (ht : ∀ k : Int, 0 ≤ k → k < s 1 → rd k.toNat = rd' k.toNat ∧ st k.toNat = st' k.toNat) : pthS s o rd st = pthS s o' rd' st' := by
  have h20 := hA.2.1.1
  obtain ⟨h1, h2⟩ := lstO_cg (s := s) (st := st) (st' := st') (fun k h0 h1 => (ht k h0 h1).2) (s 1).toNat (by omega)
  unfold pthS
  rw [← h1]
  exact pthO_cg hA hO h ht 21 _ (by omega)
theorem pthF_cg {s o o' rd st rd' st' : Nat → Int} (e : pthS s o rd st = pthS s o' rd' st') (i : Nat) : pthF s o rd st i = pthF s o' rd' st' i := by
  unfold pthF
  rw [e]
/-- the times are the same -/
theorem Tp.same {s o : Nat → Int} {hd hu : Int} {rd st rd' st' : Nat → Int} (hA : WfA s) (hO : WfO s) (h : Tp s o hd hu rd st) (g : Tp s o hd hu rd' st') (gq : Tq s o st') (h0 : cntU st (s 1).toNat = 0) : ∀ k : Int, 0 ≤ k → k < s 1 → rd k.toNat = rd' k.toNat ∧ st k.toNat = st' k.toNat := fun k k0 k1 => by
  have hs := cntU_0.mp h0 k.toNat (by omega)
  obtain ⟨a, b⟩ := h.uniq hA hO g gq ((st k.toNat).toNat + 1) k k0 k1 hs (by omega)
  exact ⟨b.symm, a.symm⟩
