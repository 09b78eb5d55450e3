/-! ===== a machine can be closed without a cycle ===== -/
/-- a set of operations that isn't empty has one with the least key -/
theorem least {P : Int → Prop} {key : Int → Int} : ∀ (n : Nat) (x : Int), P x → 0 ≤ key x → (key x).toNat < n → (∀ y, P y → 0 ≤ key y) → ∃ z, P z ∧ ∀ y, P y → key z ≤ key y
  | 0, x, _, _, h, _ => by omega
  | n + 1, x, hx, h0, hn, hp => by
    by_cases q : ∃ y, P y ∧ key y < key x
    · obtain ⟨y, hy, hk⟩ := q
      exact least n y hy (hp y hy) (by have := hp y hy; omega) hp
    · exact ⟨x, hx, fun y hy => by rcases Int.lt_or_le (key y) (key x) with c | c; (exact absurd ⟨y, hy, c⟩ q); exact c⟩
/-- the operations of a machine by growing key -/
theorem sorted {s : Nat → Int} (hO : WfO s) {m n : Nat} (hm : m ≤ 3) (hn : sOn s m = n) {key : Int → Int} (hk : ∀ k, 0 ≤ k → k < s 1 → 0 ≤ key k) (hi : ∀ k l, 0 ≤ k → k < s 1 → 0 ≤ l → l < s 1 → key k = key l → k = l) : ∀ p : Nat, p ≤ n → ∃ c, isPm s m p c ∧ (∀ i, i + 1 < p → key (c i) < key (c (i + 1))) ∧ ∀ x, (0 ≤ x ∧ x < s 1) → sMc s x = m → (∀ i, i < p → c i ≠ x) → ∀ i, i < p → key (c i) < key x
  | 0, _ => ⟨fun _ => 0, ⟨fun i h => by omega, fun i j h => by omega⟩, fun i h => by omega, fun x _ _ _ i h => by omega⟩
  | p + 1, hp => by
    obtain ⟨c, h1, h2, h3⟩ := sorted hO hm hn hk hi p (by omega)
    have own := isPm.own hO hm hn
    have ex : ∃ x, (0 ≤ x ∧ x < s 1) ∧ sMc s x = m ∧ ∀ i, i < p → c i ≠ x := by
      by_cases q : ∃ j, j < n ∧ ∀ i, i < p → c i ≠ s (183 + 5 * m + j)
      · obtain ⟨j, hj, h⟩ := q
        exact ⟨_, (own.1 j hj).1, (own.1 j hj).2, h⟩
      · exfalso
        have al : ∀ j, j < n → ∃ i, i < p ∧ c i = s (183 + 5 * m + j) := fun j hj => Classical.byContradiction fun z => q ⟨j, hj, fun i hi e => z ⟨i, hi, e⟩⟩
        have := pig p n (fun j => if h : j < n then ((Classical.choose (al j h) : Nat) : Int) else 0) (fun j hj => by
          try dsimp only
          rw [dif_pos hj]
          have := (Classical.choose_spec (al j hj)).1
          omega) (fun a b ha hb hab => by
          try dsimp only at hab
          rw [dif_pos ha, dif_pos hb] at hab
          have e1 := (Classical.choose_spec (al a ha)).2
          have e2 := (Classical.choose_spec (al b hb)).2
          have e3 : Classical.choose (al a ha) = Classical.choose (al b hb) := by omega
          rw [e3, e2] at e1
          exact (own.2 b a hb ha e1).symm)
        omega
    obtain ⟨x0, x1, x2, x3⟩ := ex
    obtain ⟨z, ⟨z1, z2, z3⟩, zm⟩ := least (P := fun x => (0 ≤ x ∧ x < s 1) ∧ sMc s x = m ∧ ∀ i, i < p → c i ≠ x) (key := key) ((key x0).toNat + 1) x0 ⟨x1, x2, x3⟩ (hk _ x1.1 x1.2) (by omega) (fun y hy => hk y hy.1.1 hy.1.2)
    have zc := h3 z z1 z2 z3
    have hinj := hi
    refine ⟨sup c p z, ⟨fun i hi => ?_, fun i j hi' hj' e => ?_⟩, fun i hi => ?_, fun x y1 y2 y3 i hi => ?_⟩
    · by_cases q : i = p
      · rw [q, sup_s]; exact ⟨z1, z2⟩
      · rw [sup_n q]; exact h1.1 i (by omega)
    · by_cases q : i = p <;> by_cases r : j = p
      · omega
      · rw [q, sup_s, sup_n r] at e; exact absurd e.symm (z3 j (by omega))
      · rw [r, sup_s, sup_n q] at e; exact absurd e (z3 i (by omega))
      · rw [sup_n q, sup_n r] at e; exact h1.2 i j (by omega) (by omega) e
    · rw [sup_n (by omega : i ≠ p)]
      by_cases q : i + 1 = p
      · rw [q, sup_s]; exact zc i (by omega)
      · rw [sup_n q]; exact h2 i (by omega)
    · have yc : ∀ i, i < p → c i ≠ x := fun i hi => by have := y3 i (by omega); rw [sup_n (by omega)] at this; exact this
      by_cases q : i = p
      · rw [q, sup_s]
        have a := zm x ⟨y1, y2, yc⟩
        have b : z ≠ x := by have := y3 p (by omega); rw [sup_s] at this; exact this
        have nz : key z ≠ key x := fun e => b (hinj _ _ z1.1 z1.2 y1.1 y1.2 e)
        omega
      · rw [sup_n q]; exact h3 x y1 y2 yc i (by omega)
theorem feas {s o : Nat → Int} (hA : WfA s) (hO : WfO s) {m n : Nat} (hm : m ≤ 3) (hn : sOn s m = n) (h : ACy s o) : ∃ c, isPm s m n c ∧ ACy (sPut s m n c) (sup o m 0) := by
  obtain ⟨r, hr⟩ := h
  have h20 := hA.2.1.1
  have h05 := hA.1.1
  have hm5 := (hO m (by omega) (by omega)).1
  obtain ⟨c, h1, h2, -⟩ := sorted hO hm hn (key := fun k => r k.toNat * 32 + k) (fun k k0 k1 => by have := (hr k k0 k1).1; omega) (fun k l k0 k1 l0 l1 e => by
    try dsimp only at e
    omega) n (by omega)
  refine ⟨c, h1, fun k => r k * 32 + k, fun k k0 k1 => ?_⟩
  obtain ⟨wA, wO⟩ := sPut_W hA hO hm hn h1
  have e1 : sPut s m n c 1 = s 1 := sPut_lo (by omega)
  rw [e1] at k1
  obtain ⟨r0, r1, r2⟩ := hr k k0 k1
  obtain ⟨a1, a2, a3, a4, a5, a6⟩ := hA.2.1.2 k k0 k1
  have hln := (hA.1.2 _ a1.1 a1.2).2.2.2
  have eix : sIx (sPut s m n c) k = sIx s k := sPut_lo (by omega)
  have ejb : sJb (sPut s m n c) k = sJb s k := sPut_lo (by omega)
  have emc : sMc (sPut s m n c) k = sMc s k := sPut_lo (by omega)
  have ebf : sBef (sPut s m n c) k = sBef s k := by
    unfold sBef
    rw [eix, ejb]
    split
    · rfl
    · exact sPut_lo (by omega)
  have up : ∀ l : Int, 0 ≤ l → l < s 1 → r l.toNat < r k.toNat → r l.toNat * 32 + (l.toNat : Nat) < r k.toNat * 32 + (k.toNat : Nat) := fun l l0 l1 q => by omega
  refine ⟨by show 0 ≤ r k.toNat * 32 + (k.toNat : Nat); omega, fun q => ?_, fun q => ?_⟩
  · rw [ebf] at q ⊢
    have b := ((sBef_ok hA k0 k1).resolve_left q).1
    exact up _ b.1 b.2 (r1 q)
  · by_cases z : sMc s k = m
    · have po := wO.pos (k := k) ⟨k0, by rw [e1]; exact k1⟩ (by rw [emc]; exact a2)
      rw [emc, z] at po
      have on : sOn (sPut s m n c) m = n := by rw [← hn]; exact sPut_lo (by omega)
      have ea : ∀ i : Int, 0 ≤ i → i < n → sOr (sPut s m n c) m i = c i.toNat := fun i i0 i1 => by
        show sPut s m n c _ = _
        rw [show (183 + 5 * (m : Int) + i).toNat = 183 + 5 * m + i.toNat by omega]
        exact sPut_at (by omega)
      have pat := po.1.2.1
      rw [emc, z] at pat
      have p0 := po.1.1.1
      have p1 := po.2
      rw [on] at p1
      generalize hp : sPos (sPut s m n c) k = p at *
      rw [ea p p0 p1] at pat
      have eah : sAh (sPut s m n c) (sup o m 0) k = if p = 0 then -1 else c (p - 1).toNat := by
        unfold sAh
        rw [emc, z, Int.toNat_natCast, sup_s, hp, if_neg (by omega)]
        split
        · rfl
        · exact ea (p - 1) (by omega) (by omega)
      rw [eah] at q ⊢
      split at q
      · exact absurd rfl q
      · next hp0 =>
        rw [if_neg hp0]
        have := h2 (p - 1).toNat (by omega)
        rw [show (p - 1).toNat + 1 = p.toNat by omega, pat] at this
        try dsimp only at this
        have b := (h1.1 (p - 1).toNat (by omega)).1
        show r (c (p - 1).toNat).toNat * 32 + ((c (p - 1).toNat).toNat : Nat) < r k.toNat * 32 + (k.toNat : Nat)
        omega
    · have oo : ∀ p : Int, 0 ≤ p → p < 5 → sOr (sPut s m n c) (sMc s k) p = sOr s (sMc s k) p := fun p p0 p1 => sPut_lo (by omega)
      have eps : sPos (sPut s m n c) k = sPos s k := by
        unfold sPos
        rw [emc, oo 0 (by omega) (by omega), oo 1 (by omega) (by omega), oo 2 (by omega) (by omega), oo 3 (by omega) (by omega)]
      have pr := sPos_r s k
      have eah : sAh (sPut s m n c) (sup o m 0) k = sAh s o k := by
        unfold sAh
        rw [emc, eps, sup_n (by omega)]
        split
        · rfl
        · split
          · rfl
          · exact oo _ (by omega) (by omega)
      rw [eah] at q ⊢
      have b := ((sAh_ok (o := o) hA hO k0 k1).resolve_left q).2.1
      exact up _ b.1 b.2 (r2 q)

