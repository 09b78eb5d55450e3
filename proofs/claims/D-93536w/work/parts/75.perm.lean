/-! ===== the next order, purely ===== -/
theorem LT.trans {n : Nat} {a b c : Nat → Int} (h : LT n a b) (g : LT n b c) : LT n a c := by
  obtain ⟨i, i1, i2, i3⟩ := h
  obtain ⟨j, j1, j2, j3⟩ := g
  rcases (by omega : i < j ∨ i = j ∨ j < i) with q | q | q
  · exact ⟨i, i1, fun x hx => (i2 x hx).trans (j2 x (by omega)), by rw [← j2 i q]; exact i3⟩
  · subst q
    exact ⟨i, i1, fun x hx => (i2 x hx).trans (j2 x hx), by omega⟩
  · exact ⟨j, j1, fun x hx => (i2 x (by omega)).trans (j2 x hx), by rw [i2 j q]; exact j3⟩
theorem LT.tri {a b : Nat → Int} : ∀ n, LT n a b ∨ EQ n a b ∨ LT n b a
  | 0 => Or.inr (Or.inl fun j hj => by omega)
  | n + 1 => by
    rcases LT.tri (a := a) (b := b) n with h | h | h
    · exact Or.inl (LT_s.mpr (Or.inl h))
    · rcases Int.lt_trichotomy (a n) (b n) with q | q | q
      · exact Or.inl (LT_s.mpr (Or.inr ⟨h, q⟩))
      · exact Or.inr (Or.inl (EQ_s.mpr ⟨h, q⟩))
      · exact Or.inr (Or.inr (LT_s.mpr (Or.inr ⟨h.symm, q⟩)))
    · exact Or.inr (Or.inr (LT_s.mpr (Or.inl h)))
/-- a number that grows with the order -/
def vlF (f : Nat → Int) : Nat → Int
  | 0 => 0
  | n + 1 => 20 * vlF f n + f n
theorem vlF_e {a b : Nat → Int} : ∀ n, EQ n a b → vlF a n = vlF b n
  | 0, _ => rfl
  | n + 1, h => by
    unfold vlF
    rw [vlF_e n (EQ_s.mp h).1, (EQ_s.mp h).2]
theorem vlF_lt {a b : Nat → Int} : ∀ n, (∀ i, i < n → 0 ≤ a i ∧ a i < 20) → (∀ i, i < n → 0 ≤ b i ∧ b i < 20) → LT n a b → vlF a n < vlF b n
  | 0, _, _, h => by obtain ⟨i, h1, -⟩ := h; omega
  | n + 1, ha, hb, h => by
    have a1 := ha n (by omega)
    have b1 := hb n (by omega)
    unfold vlF
    rcases LT_s.mp h with q | ⟨q1, q2⟩
    · have := vlF_lt n (fun i hi => ha i (by omega)) (fun i hi => hb i (by omega)) q
      omega
    · rw [vlF_e n q1]
      omega
theorem vlF_r {a : Nat → Int} (n : Nat) (hn : n ≤ 5) (ha : ∀ i, i < n → 0 ≤ a i ∧ a i < 20) : vlF a n < 3200000 := by
  have h : ∀ n, (∀ i, i < n → 0 ≤ a i ∧ a i < 20) → vlF a n < 20 ^ n := by
    intro n
    induction n with
    | zero => intro _; simp [vlF]
    | succ n ih =>
      intro h
      have h1 := ih (fun i hi => h i (by omega))
      have h2 := h n (by omega)
      unfold vlF
      rw [Int.pow_succ]
      omega
  have h1 := h n ha
  rcases (by omega : n = 0 ∨ n = 1 ∨ n = 2 ∨ n = 3 ∨ n = 4 ∨ n = 5) with rfl | rfl | rfl | rfl | rfl | rfl <;> (simp at h1; omega)
section XPm
variable {s : Nat → Int} {m n : Nat}
/-- every operation of the machine is there -/
theorem isPm.sur (hA : WfA s) (hO : WfO s) (hm : m ≤ 3) (hn : sOn s m = n) {c : Nat → Int} (hc : isPm s m n c) {k : Int} (hk : 0 ≤ k ∧ k < s 1) (hkm : sMc s k = m) : ∃ i, i < n ∧ c i = k := by
  have hn5 := (hO m (by omega) (by omega)).1
  obtain ⟨hA', hO'⟩ := sPut_W hA hO hm hn hc
  obtain ⟨-, -, -, h4⟩ := hO' m (by omega) (by omega)
  have e1 : sPut s m n c 1 = s 1 := sPut_lo (by omega)
  have e2 : sMc (sPut s m n c) k = sMc s k := sPut_lo (by have := hA.2.1.1; omega)
  have e3 : sOn (sPut s m n c) m = sOn s m := sPut_lo (by omega)
  obtain ⟨p, p0, p1, p2⟩ := h4 k hk.1 (by rw [e1]; exact hk.2) (by rw [e2]; exact hkm)
  rw [e3, hn] at p1
  refine ⟨p.toNat, by omega, ?_⟩
  have e4 : sOr (sPut s m n c) m p = c p.toNat := by
    show sPut s m n c (183 + 5 * (m : Int) + p).toNat = _
    rw [show (183 + 5 * (m : Int) + p).toNat = 183 + 5 * m + p.toNat by omega]
    exact sPut_at (by omega)
  rw [← e4]
  exact p2
theorem isPm.mem (hA : WfA s) (hO : WfO s) (hm : m ≤ 3) (hn : sOn s m = n) {c f : Nat → Int} (hc : isPm s m n c) (hf : isPm s m n f) {i : Nat} (hi : i < n) : ∃ j, j < n ∧ f j = c i := hf.sur hA hO hm hn (hc.1 i hi).1 (hc.1 i hi).2
/-- one that rises from a on is the least of those that begin alike -/
theorem isPm.least (hA : WfA s) (hO : WfO s) (hm : m ≤ 3) (hn : sOn s m = n) {c f : Nat → Int} (hc : isPm s m n c) (hf : isPm s m n f) {a : Nat} (hr : ∀ i j, a ≤ i → i < j → j < n → f i ≤ f j) (he : ∀ j, j < a → c j = f j) : ¬ LT n c f := by
  rintro ⟨i, h1, h2, h3⟩
  by_cases ha : i < a
  · have := he i ha; omega
  · obtain ⟨j, j1, j2⟩ := hc.mem hA hO hm hn hf h1
    rcases (by omega : j < i ∨ j = i ∨ i < j) with q | q | q
    · have := hc.2 j i (by omega) h1 (by rw [h2 j q, j2])
      omega
    · rw [q] at j2; omega
    · have := hr i j (by omega) q j1
      omega
/-- the last one falls -/
theorem isPm.last (hA : WfA s) (hO : WfO s) (hm : m ≤ 3) (hn : sOn s m = n) {c f : Nat → Int} (hc : isPm s m n c) (hf : isPm s m n f) (hd : ∀ i, i + 1 < n → f (i + 1) < f i) : LT n c f ∨ EQ n c f := by
  have hd2 : ∀ d i, i + d + 1 < n → f (i + d + 1) < f i := by
    intro d
    induction d with
    | zero => exact fun i hi => hd i hi
    | succ d ih =>
      intro i hi
      have h1 := ih i (by omega)
      have h2 := hd (i + d + 1) (by omega)
      rw [show i + (d + 1) + 1 = i + d + 1 + 1 by omega]
      omega
  rcases LT.tri (a := c) (b := f) n with h | h | h
  · exact Or.inl h
  · exact Or.inr h
  · exfalso
    obtain ⟨i, h1, h2, h3⟩ := h
    obtain ⟨j, j1, j2⟩ := hc.mem hA hO hm hn hf h1
    rcases (by omega : j < i ∨ j = i ∨ i < j) with q | q | q
    · have := hc.2 j i (by omega) h1 (by rw [← h2 j q, j2])
      omega
    · rw [q] at j2; omega
    · have := hd2 (j - i - 1) i (by omega)
      rw [show i + (j - i - 1) + 1 = j by omega] at this
      omega
theorem nxF.lt {f f' : Nat → Int} (h : nxF f f' n) : LT n f f' := by
  obtain ⟨p, q, a1, a2, a3, a4, a5, a6, a7, a8⟩ := h
  exact ⟨p, by omega, fun j hj => (a6 j hj).symm, by omega⟩
/-- nothing lies between an order and the next one -/
theorem nxF.law (hA : WfA s) (hO : WfO s) (hm : m ≤ 3) (hn : sOn s m = n) {c f f' : Nat → Int} (hc : isPm s m n c) (hf : isPm s m n f) (hf' : isPm s m n f') (h : nxF f f' n) : LT n c f' ↔ LT n c f ∨ EQ n c f := by
  have hlt := h.lt
  constructor
  · intro hcf
    rcases LT.tri (a := c) (b := f) n with q | q | q
    · exact Or.inl q
    · exact Or.inr q
    · exfalso
      obtain ⟨p, r, a1, a2, a3, a4, a5, a6, a7, a8⟩ := h
      have hdesc : ∀ d i, p < i → i + d + 1 < n → f (i + d + 1) < f i := by
        intro d
        induction d with
        | zero => exact fun i i0 hi => a4 i i0 hi
        | succ d ih =>
          intro i i0 hi
          have h1 := ih i i0 (by omega)
          have h2 := a4 (i + d + 1) (by omega) (by omega)
          rw [show i + (d + 1) + 1 = i + d + 1 + 1 by omega]
          omega
      have hd2 : ∀ i j, p < i → i < j → j < n → f j < f i := fun i j i0 ij jn => by
        have := hdesc (j - i - 1) i i0 (by omega)
        rw [show i + (j - i - 1) + 1 = j by omega] at this
        exact this
      obtain ⟨i, h1, h2, h3⟩ := q
      obtain ⟨j, j1, j2⟩ := hc.mem hA hO hm hn hf h1
      have hij : i < j := by
        rcases (by omega : j < i ∨ j = i ∨ i < j) with q | q | q
        · have := hc.2 j i (by omega) h1 (by rw [← h2 j q, j2])
          omega
        · rw [q] at j2; omega
        · exact q
      rcases (by omega : p < i ∨ i < p ∨ i = p) with y | y | y
      · have := hd2 i j y hij j1
        omega
      · exact hcf.asym ⟨i, h1, fun x hx => by rw [a6 x (by omega), h2 x hx], by rw [a6 i y]; exact h3⟩
      · subst y
        have hjr : j ≤ r := by
          rcases Nat.lt_or_ge r j with z | z
          · have := a5 j z j1; omega
          · exact z
        have hfr : f r ≤ f j := by
          rcases (by omega : j < r ∨ j = r) with z | z
          · have := hd2 j r hij z a2; omega
          · rw [z]; exact Int.le_refl _
        rcases (by omega : f r < c i ∨ f r = c i) with z | z
        · exact hcf.asym ⟨i, h1, fun x hx => by rw [a6 x hx, h2 x hx], by rw [a7]; exact z⟩
        · refine hc.least hA hO hm hn hf' (a := i + 1) (fun x y x0 xy yn => ?_) (fun x hx => ?_) hcf
          · rw [a8 x (by omega) (by omega), a8 y (by omega) yn]
            have hF : ∀ v w, i < v → v < w → w < n → swF f i r w ≤ swF f i r v := fun v w v0 vw wn => by
              have vF : ∀ x, i < x → swF f i r x = if x = r then f i else f x := fun x hx => by
                unfold swF
                by_cases e : x = r
                · rw [if_pos e, e, sup_s]
                · rw [if_neg e, sup_n e, sup_n (by omega)]
              rw [vF v v0, vF w (by omega)]
              have z1 := hd2 v w v0 vw wn
              by_cases e1 : v = r
              · rw [if_pos e1, if_neg (by omega)]
                have := a5 w (by omega) wn; omega
              · rw [if_neg e1]
                by_cases e2 : w = r
                · rw [if_pos e2]
                  rw [e2] at z1
                  omega
                · rw [if_neg e2]
                  omega
            exact hF (n + i - y) (n + i - x) (by omega) (by omega) (by omega)
          · rcases (by omega : x < i ∨ x = i) with q | q
            · rw [a6 x q, h2 x q]
            · rw [q, a7, z]
  · rintro (q | q)
    · exact q.trans hlt
    · exact hlt.l q.symm
theorem isPm.sw {c : Nat → Int} (h : isPm s m n c) {p q : Nat} (hpq : p < q) (hq : q < n) : isPm s m n (swF c p q) := by
  have v : ∀ x, swF c p q x = c (if x = q then p else if x = p then q else x) := fun x => by
    unfold swF
    by_cases e : x = q
    · rw [if_pos e, e, sup_s]
    · rw [if_neg e, sup_n e]
      by_cases e2 : x = p
      · rw [if_pos e2, e2, sup_s]
      · rw [if_neg e2, sup_n e2]
  have b : ∀ x, x < n → (if x = q then p else if x = p then q else x) < n := fun x hx => by
    split
    · omega
    · split <;> omega
  refine ⟨fun i hi => ?_, fun i j hi hj e => ?_⟩
  · rw [v]
    exact h.1 _ (b i hi)
  · rw [v, v] at e
    have := h.2 _ _ (b i hi) (b j hj) e
    by_cases a1 : i = q
    · rw [if_pos a1] at this
      by_cases a2 : j = q
      · omega
      · rw [if_neg a2] at this
        by_cases a3 : j = p
        · rw [if_pos a3] at this; omega
        · rw [if_neg a3] at this; omega
    · rw [if_neg a1] at this
      by_cases a0 : i = p
      · rw [if_pos a0] at this
        by_cases a2 : j = q
        · rw [if_pos a2] at this; omega
        · rw [if_neg a2] at this
          by_cases a3 : j = p
          · omega
          · rw [if_neg a3] at this; omega
      · rw [if_neg a0] at this
        by_cases a2 : j = q
        · rw [if_pos a2] at this; omega
        · rw [if_neg a2] at this
          by_cases a3 : j = p
          · rw [if_pos a3] at this; omega
          · rw [if_neg a3] at this; exact this
theorem isPm.ex {c : Nat → Int} (h : isPm s m n c) {p : Nat} (hp : p + 1 < n) : isPm s m n (exF c p) := h.sw (q := p + 1) (by omega) hp
end XPm
/-- who is held from when on doesn't matter if nobody is -/
theorem Tp.hu0 {s o rd st : Nat → Int} {hu hu' : Int} (h : Tp s o (-1) hu rd st) : Tp s o (-1) hu' rd st := by
  intro k k0 k1 hs
  obtain ⟨a1, a2, a3, a4⟩ := h k k0 k1 hs
  refine ⟨a1, a2, a3, ?_⟩
  unfold sFrom at a4 ⊢
  rw [if_neg (by omega)] at a4 ⊢
  exact a4
