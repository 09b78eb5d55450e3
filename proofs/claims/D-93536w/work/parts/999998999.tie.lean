/-! ===== a text is read: the two programs read alike (plain) ===== -/
section RTi
variable {t : Nat → Int} {n : Nat}
theorem isD_iff {p : Int} : isD t n p ↔ (p < n ∧ 48 ≤ t p.toNat ∧ t p.toNat ≤ 57) := by
  show (48 ≤ hrC t n p ∧ hrC t n p ≤ 57) ↔ _
  unfold hrC
  by_cases c : p < n
  · rw [if_pos c]; exact ⟨fun h => ⟨c, h⟩, fun h => h.2⟩
  · rw [if_neg c]; exact ⟨fun h => by omega, fun h => absurd h.1 c⟩
theorem nmF_L : ∀ (j : Nat) (v p e : Int), 0 < v → e = p + j → nmF t n e j p v = ((nmL t n j v p).2, (nmL t n j v p).1)
  | 0, v, p, e, _, _ => rfl
  | j + 1, v, p, e, hv, he => by
    unfold nmF nmL
    by_cases d : isD t n p
    · have d' := isD_iff.mp d
      have hc : hrC t n p = t p.toNat := if_pos d'.1
      rw [if_pos ⟨d', by omega⟩, if_pos (by omega), if_pos ⟨hv, d⟩, hc, show 10 * v + (t p.toNat - 48) = 10 * v + t p.toNat - 48 by omega]
      exact nmF_L j _ (p + 1) e (by omega) (by omega)
    · rw [if_neg (fun q => d (isD_iff.mpr q.1)), if_neg (fun q => d q.2)]
theorem nmF_R {p : Int} (d : isD t n p) : nmF t n (p + (3 : Nat)) (2 + 1) p 0 = ((nmR t n p).2, (nmR t n p).1) := by
  have d' := isD_iff.mp d
  have hc : hrC t n p = t p.toNat := if_pos d'.1
  unfold nmF nmR
  rw [if_pos ⟨d', by omega⟩, hc]
  by_cases z : 0 < 10 * 0 + t p.toNat - 48
  · rw [if_pos z, nmF_L 2 _ (p + 1) (p + (3 : Nat)) z (by omega), show 10 * 0 + t p.toNat - 48 = t p.toNat - 48 by omega]
  · rw [if_neg z]
    have e : nmL t n (1 + 1) (t p.toNat - 48) (p + 1) = (t p.toNat - 48, p + 1) := by
      unfold nmL
      rw [if_neg (by omega)]
    rw [show nmL t n 2 (t p.toNat - 48) (p + 1) = (t p.toNat - 48, p + 1) from e, show 10 * 0 + t p.toNat - 48 = t p.toNat - 48 by omega]
theorem nmF_1 {p : Int} (d : isD t n p) : nmF t n (p + (1 : Nat)) (0 + 1) p 0 = (p + 1, hrC t n p - 48) := by
  have d' := isD_iff.mp d
  have hc : hrC t n p = t p.toNat := if_pos d'.1
  unfold nmF
  rw [if_pos ⟨d', by omega⟩, hc, show 10 * 0 + t p.toNat - 48 = t p.toNat - 48 by omega]
  by_cases z : 0 < t p.toNat - 48
  · rw [if_pos z]; rfl
  · rw [if_neg z]
theorem nmF_n {p e : Int} {q : Nat} (d : ¬ isD t n p) : nmF t n e (q + 1) p 0 = (p, 0) := by
  unfold nmF
  rw [if_neg (fun q => d (isD_iff.mpr q.1))]
theorem wNum_y {w : tW} {q : Nat} {a v : Int} (h31 : w 31 0 < 0) (e : nmF (w 4) (w 5 0) (w 30 0 + q) q (w 30 0) 0 = (a, v)) (ha : a ≠ w 30 0) : wNum w q 31 0 = w 31 0 ∧ wNum w q 30 0 = a ∧ wNum w q 32 0 = v := by
  unfold wNum
  rw [if_pos h31, e, if_neg ha]
  exact ⟨by rw [wNP_f (by decide) (by decide)], rfl, rfl⟩
theorem wNum_n {w : tW} {q : Nat} (h31 : w 31 0 < 0) (e : nmF (w 4) (w 5 0) (w 30 0 + q) q (w 30 0) 0 = (w 30 0, 0)) : wNum w q 31 0 = w 30 0 := by
  unfold wNum
  rw [if_pos h31, e, if_pos rfl, tset_s]
theorem num1 {w : tW} (h4 : w 4 = t) (h5 : w 5 0 = n) (h31 : w 31 0 < 0) : (isD t n (w 30 0) → wNum w 1 31 0 = w 31 0 ∧ wNum w 1 30 0 = w 30 0 + 1 ∧ wNum w 1 32 0 = hrC t n (w 30 0) - 48) ∧ (¬ isD t n (w 30 0) → wNum w 1 31 0 = w 30 0) :=
  ⟨fun d => wNum_y h31 (by rw [h4, h5]; exact nmF_1 d) (by omega), fun d => wNum_n h31 (by rw [h4, h5]; exact nmF_n d)⟩
theorem num3 {w : tW} (h4 : w 4 = t) (h5 : w 5 0 = n) (h31 : w 31 0 < 0) : (isD t n (w 30 0) → wNum w 3 31 0 = w 31 0 ∧ wNum w 3 30 0 = (nmR t n (w 30 0)).2 ∧ wNum w 3 32 0 = (nmR t n (w 30 0)).1) ∧ (¬ isD t n (w 30 0) → wNum w 3 31 0 = w 30 0) :=
  ⟨fun d => wNum_y h31 (by rw [h4, h5]; exact nmF_R d) (by have := nmR_p d; omega), fun d => wNum_n h31 (by rw [h4, h5]; exact nmF_n d)⟩
theorem tk_y {w : tW} {c : Int} (h4 : w 4 = t) (h5 : w 5 0 = n) (h31 : w 31 0 < 0) (c0 : 0 ≤ c) (e : hrC t n (w 30 0) = c) : tk w c = 1 := by
  have lt := hrC.lt e c0
  have e2 : hrC t n (w 30 0) = t (w 30 0).toNat := if_pos lt
  exact bI_t ⟨h31, by rw [h5]; exact lt, by rw [h4, ← e2]; exact e⟩
theorem tk_n {w : tW} {c : Int} (h4 : w 4 = t) (h5 : w 5 0 = n) (e : hrC t n (w 30 0) ≠ c) : tk w c = 0 := bI_f fun q => by
  rw [h4, h5] at q
  exact e ((if_pos q.2.1).trans q.2.2)
theorem tk_f {w : tW} {c : Int} (h : 0 ≤ w 31 0) : tk w c = 0 := bI_f fun q => by omega
theorem wants_y {w : tW} {c : Int} (h4 : w 4 = t) (h5 : w 5 0 = n) (h31 : w 31 0 < 0) (c0 : 0 ≤ c) (e : hrC t n (w 30 0) = c) : wWants w c 31 0 = w 31 0 ∧ wWants w c 30 0 = w 30 0 + 1 := by
  have k := tk_y h4 h5 h31 c0 e
  unfold wWants
  rw [if_neg (by omega), k]
  exact ⟨tset_f (by decide), tset_s⟩
theorem wants_n {w : tW} {c : Int} (h4 : w 4 = t) (h5 : w 5 0 = n) (h31 : w 31 0 < 0) (e : hrC t n (w 30 0) ≠ c) : wWants w c 31 0 = w 30 0 := by
  unfold wWants
  rw [if_pos ⟨tk_n h4 h5 e, h31⟩]
  exact tset_s
/-- an operation's text -/
theorem opT {w : tW} (h : rdI w) (h4 : w 4 = t) (h5 : w 5 0 = n) (h31 : w 31 0 < 0) : match opP t n (w 30 0) with
    | .inr e => wR5 w 31 0 = e
    | .inl x => wR5 w 31 0 = w 31 0 ∧ wR5 w 30 0 = x.2.2.2 ∧ wR1 w 32 0 = x.1 ∧ wR3 w 32 0 = x.2.1 ∧ wR5 w 32 0 = x.2.2.1 := by
  have a := h.num (q := 1) (by omega)
  have b := a.1.wants 46
  have c := b.1.num (q := 3) (by omega)
  have d := c.1.wants 46
  have e := d.1.num (q := 1) (by omega)
  have k2 : 0 ≤ wR1 w 31 0 → wR2 w 31 0 = wR1 w 31 0 := b.2.1
  have k3 : 0 ≤ wR2 w 31 0 → wR3 w 31 0 = wR2 w 31 0 := c.2.2.1
  have k4 : 0 ≤ wR3 w 31 0 → wR4 w 31 0 = wR3 w 31 0 := d.2.1
  have k5 : 0 ≤ wR4 w 31 0 → wR5 w 31 0 = wR4 w 31 0 := e.2.2.1
  have c4 : 0 ≤ wR4 w 31 0 → wR5 w 31 0 = wR4 w 31 0 := k5
  have c3 : 0 ≤ wR3 w 31 0 → wR5 w 31 0 = wR3 w 31 0 := fun z => by have f := k4 z; have g := c4 (by omega); omega
  have c2 : 0 ≤ wR2 w 31 0 → wR5 w 31 0 = wR2 w 31 0 := fun z => by have f := k3 z; have g := c3 (by omega); omega
  have c1 : 0 ≤ wR1 w 31 0 → wR5 w 31 0 = wR1 w 31 0 := fun z => by have f := k2 z; have g := c2 (by omega); omega
  have p0 := h.2.1.1
  have t1 : wR1 w 4 = t := (a.2.2.2 4 (by decide) (by decide) (by decide)).trans h4
  have n1 : wR1 w 5 0 = n := (congrFun (a.2.2.2 5 (by decide) (by decide) (by decide)) 0).trans h5
  have t2 : wR2 w 4 = t := (b.2.2 4 (by decide) (by decide)).trans t1
  have n2 : wR2 w 5 0 = n := (congrFun (b.2.2 5 (by decide) (by decide)) 0).trans n1
  have t3 : wR3 w 4 = t := (c.2.2.2 4 (by decide) (by decide) (by decide)).trans t2
  have n3 : wR3 w 5 0 = n := (congrFun (c.2.2.2 5 (by decide) (by decide) (by decide)) 0).trans n2
  have t4 : wR4 w 4 = t := (d.2.2 4 (by decide) (by decide)).trans t3
  have n4 : wR4 w 5 0 = n := (congrFun (d.2.2 5 (by decide) (by decide)) 0).trans n3
  unfold opP
  by_cases d0 : isD t n (w 30 0)
  rotate_left
  · rw [if_pos d0]
    have z : wR1 w 31 0 = w 30 0 := (num1 h4 h5 h31).2 d0
    exact (c1 (by omega)).trans z
  rw [if_neg (not_not_intro d0)]
  obtain ⟨x1, x2, x3⟩ : wR1 w 31 0 = w 31 0 ∧ wR1 w 30 0 = w 30 0 + 1 ∧ wR1 w 32 0 = hrC t n (w 30 0) - 48 := (num1 h4 h5 h31).1 d0
  by_cases d1 : hrC t n (w 30 0 + 1) = 46
  rotate_left
  · rw [if_pos d1]
    have z : wR2 w 31 0 = wR1 w 30 0 := wants_n t1 n1 (by omega) (by rw [x2]; exact d1)
    exact (c2 (by omega)).trans (z.trans x2)
  rw [if_neg (not_not_intro d1)]
  obtain ⟨y1, y2⟩ : wR2 w 31 0 = wR1 w 31 0 ∧ wR2 w 30 0 = wR1 w 30 0 + 1 := wants_y t1 n1 (by omega) (by decide) (by rw [x2]; exact d1)
  have y3 : wR2 w 30 0 = w 30 0 + 2 := by omega
  have N3 := num3 t2 n2 (by omega)
  rw [y3] at N3
  by_cases d2 : isD t n (w 30 0 + 2)
  rotate_left
  · rw [if_pos d2]
    have z : wR3 w 31 0 = w 30 0 + 2 := N3.2 d2
    exact (c3 (by omega)).trans z
  rw [if_neg (not_not_intro d2)]
  obtain ⟨z1, z2, z3⟩ : wR3 w 31 0 = wR2 w 31 0 ∧ wR3 w 30 0 = (nmR t n (w 30 0 + 2)).2 ∧ wR3 w 32 0 = (nmR t n (w 30 0 + 2)).1 := N3.1 d2
  have q2 := nmR_p d2
  generalize nmR t n (w 30 0 + 2) = x at *
  by_cases d3 : hrC t n x.2 = 46
  rotate_left
  · rw [if_pos d3]
    have z : wR4 w 31 0 = wR3 w 30 0 := wants_n t3 n3 (by omega) (by rw [z2]; exact d3)
    exact (c4 (by omega)).trans (z.trans z2)
  rw [if_neg (not_not_intro d3)]
  obtain ⟨u1, u2⟩ : wR4 w 31 0 = wR3 w 31 0 ∧ wR4 w 30 0 = wR3 w 30 0 + 1 := wants_y t3 n3 (by omega) (by decide) (by rw [z2]; exact d3)
  have u3 : wR4 w 30 0 = x.2 + 1 := by omega
  have N5 := num1 t4 n4 (by omega)
  rw [u3] at N5
  by_cases d4 : isD t n (x.2 + 1)
  rotate_left
  · rw [if_pos d4]
    exact N5.2 d4
  rw [if_neg (not_not_intro d4)]
  obtain ⟨v1, v2, v3⟩ : wR5 w 31 0 = wR4 w 31 0 ∧ wR5 w 30 0 = x.2 + 1 + 1 ∧ wR5 w 32 0 = hrC t n (x.2 + 1) - 48 := N5.1 d4
  exact ⟨by omega, by show wR5 w 30 0 = x.2 + 2; omega, x3, z3, v3⟩
/-- the head of a job -/
theorem hdT {w : tW} (h : rdI w) (h4 : w 4 = t) (h5 : w 5 0 = n) (h31 : w 31 0 < 0) : match hdL t n 3 0 (fun _ => 0) (w 30 0) with
    | .inr e => wJ6 w 31 0 = e
    | .inl x => (hrC t n x.2 ≠ 58 → wJ6 w 31 0 = x.2) ∧ (hrC t n x.2 = 58 → wJ6 w 31 0 = w 31 0 ∧ wJ6 w 30 0 = x.2 + 1) ∧ x.1 0 = wJ1 w 32 0 ∧ x.1 1 = wJ3 w 32 0 ∧ x.1 2 = wJ5 w 32 0 := by
  have a := h.num (q := 3) (by omega)
  have b := a.1.wants 44
  have c := b.1.num (q := 3) (by omega)
  have d := c.1.wants 44
  have e := d.1.num (q := 3) (by omega)
  have g := e.1.wants 58
  have k2 : 0 ≤ wJ1 w 31 0 → wJ2 w 31 0 = wJ1 w 31 0 := b.2.1
  have k3 : 0 ≤ wJ2 w 31 0 → wJ3 w 31 0 = wJ2 w 31 0 := c.2.2.1
  have k4 : 0 ≤ wJ3 w 31 0 → wJ4 w 31 0 = wJ3 w 31 0 := d.2.1
  have k5 : 0 ≤ wJ4 w 31 0 → wJ5 w 31 0 = wJ4 w 31 0 := e.2.2.1
  have c5 : 0 ≤ wJ5 w 31 0 → wJ6 w 31 0 = wJ5 w 31 0 := g.2.1
  have c4 : 0 ≤ wJ4 w 31 0 → wJ6 w 31 0 = wJ4 w 31 0 := fun z => by have f := k5 z; have g := c5 (by omega); omega
  have c3 : 0 ≤ wJ3 w 31 0 → wJ6 w 31 0 = wJ3 w 31 0 := fun z => by have f := k4 z; have g := c4 (by omega); omega
  have c2 : 0 ≤ wJ2 w 31 0 → wJ6 w 31 0 = wJ2 w 31 0 := fun z => by have f := k3 z; have g := c3 (by omega); omega
  have c1 : 0 ≤ wJ1 w 31 0 → wJ6 w 31 0 = wJ1 w 31 0 := fun z => by have f := k2 z; have g := c2 (by omega); omega
  have p0 := h.2.1.1
  have t1 : wJ1 w 4 = t := (a.2.2.2 4 (by decide) (by decide) (by decide)).trans h4
  have n1 : wJ1 w 5 0 = n := (congrFun (a.2.2.2 5 (by decide) (by decide) (by decide)) 0).trans h5
  have t2 : wJ2 w 4 = t := (b.2.2 4 (by decide) (by decide)).trans t1
  have n2 : wJ2 w 5 0 = n := (congrFun (b.2.2 5 (by decide) (by decide)) 0).trans n1
  have t3 : wJ3 w 4 = t := (c.2.2.2 4 (by decide) (by decide) (by decide)).trans t2
  have n3 : wJ3 w 5 0 = n := (congrFun (c.2.2.2 5 (by decide) (by decide) (by decide)) 0).trans n2
  have t4 : wJ4 w 4 = t := (d.2.2 4 (by decide) (by decide)).trans t3
  have n4 : wJ4 w 5 0 = n := (congrFun (d.2.2 5 (by decide) (by decide)) 0).trans n3
  have t5 : wJ5 w 4 = t := (e.2.2.2 4 (by decide) (by decide) (by decide)).trans t4
  have n5 : wJ5 w 5 0 = n := (congrFun (e.2.2.2 5 (by decide) (by decide) (by decide)) 0).trans n4
  have hd0 : hdL t n (2 + 1) 0 (fun _ => 0) (w 30 0) = if ¬ isD t n (w 30 0) then .inr (w 30 0) else hdL t n 2 1 (sup (fun _ => 0) 0 (nmR t n (w 30 0)).1) (nmR t n (w 30 0)).2 := by
    unfold hdL
    rw [if_neg (by omega), show (if (0 : Int) < 0 then w 30 0 + 1 else w 30 0) = w 30 0 from if_neg (by decide)]
    rfl
  have hdS : ∀ (j : Nat) (k : Int) (f : Nat → Int) (p : Int), 0 < k → hdL t n (j + 1) k f p = if hrC t n p ≠ 44 then .inr p else if ¬ isD t n (p + 1) then .inr (p + 1) else hdL t n j (k + 1) (sup f k.toNat (nmR t n (p + 1)).1) (nmR t n (p + 1)).2 := by
    intro j k f p hk
    rw [hdL]
    rw [show (if 0 < k then p + 1 else p) = p + 1 from if_pos hk]
    by_cases q : hrC t n p = 44
    · rw [if_neg (fun y => y.2 q), if_neg (not_not_intro q)]
    · rw [if_pos ⟨hk, q⟩, if_pos q]
  rw [show hdL t n 3 0 (fun _ => 0) (w 30 0) = hdL t n (2 + 1) 0 (fun _ => 0) (w 30 0) from rfl, hd0]
  have N1 := num3 h4 h5 h31
  by_cases d0 : isD t n (w 30 0)
  rotate_left
  · rw [if_pos d0]
    have z : wJ1 w 31 0 = w 30 0 := N1.2 d0
    exact (c1 (by omega)).trans z
  rw [if_neg (not_not_intro d0)]
  obtain ⟨x1, x2, x3⟩ : wJ1 w 31 0 = w 31 0 ∧ wJ1 w 30 0 = (nmR t n (w 30 0)).2 ∧ wJ1 w 32 0 = (nmR t n (w 30 0)).1 := N1.1 d0
  have q0 := nmR_p d0
  clear N1 hd0
  generalize nmR t n (w 30 0) = y0 at *
  rw [show hdL t n 2 1 (sup (fun _ => 0) 0 y0.1) y0.2 = hdL t n (1 + 1) 1 (sup (fun _ => 0) 0 y0.1) y0.2 from rfl, hdS 1 1 _ _ (by decide)]
  by_cases d1 : hrC t n y0.2 = 44
  rotate_left
  · rw [if_pos d1]
    have z : wJ2 w 31 0 = wJ1 w 30 0 := wants_n t1 n1 (by omega) (by rw [x2]; exact d1)
    exact (c2 (by omega)).trans (z.trans x2)
  rw [if_neg (not_not_intro d1)]
  obtain ⟨y1, y2⟩ : wJ2 w 31 0 = wJ1 w 31 0 ∧ wJ2 w 30 0 = wJ1 w 30 0 + 1 := wants_y t1 n1 (by omega) (by decide) (by rw [x2]; exact d1)
  have y3 : wJ2 w 30 0 = y0.2 + 1 := by omega
  have N3 := num3 t2 n2 (by omega)
  rw [y3] at N3
  by_cases d2 : isD t n (y0.2 + 1)
  rotate_left
  · rw [if_pos d2]
    have z : wJ3 w 31 0 = y0.2 + 1 := N3.2 d2
    exact (c3 (by omega)).trans z
  rw [if_neg (not_not_intro d2)]
  obtain ⟨z1, z2, z3⟩ : wJ3 w 31 0 = wJ2 w 31 0 ∧ wJ3 w 30 0 = (nmR t n (y0.2 + 1)).2 ∧ wJ3 w 32 0 = (nmR t n (y0.2 + 1)).1 := N3.1 d2
  have q2 := nmR_p d2
  clear N3
  generalize nmR t n (y0.2 + 1) = v0 at *
  rw [show hdL t n 1 (1 + 1) (sup (sup (fun _ => 0) 0 y0.1) (1 : Int).toNat v0.1) v0.2 = hdL t n (0 + 1) 2 (sup (sup (fun _ => 0) 0 y0.1) 1 v0.1) v0.2 from rfl, hdS 0 2 _ _ (by decide)]
  by_cases d3 : hrC t n v0.2 = 44
  rotate_left
  · rw [if_pos d3]
    have z : wJ4 w 31 0 = wJ3 w 30 0 := wants_n t3 n3 (by omega) (by rw [z2]; exact d3)
    exact (c4 (by omega)).trans (z.trans z2)
  rw [if_neg (not_not_intro d3)]
  obtain ⟨u1, u2⟩ : wJ4 w 31 0 = wJ3 w 31 0 ∧ wJ4 w 30 0 = wJ3 w 30 0 + 1 := wants_y t3 n3 (by omega) (by decide) (by rw [z2]; exact d3)
  have u3 : wJ4 w 30 0 = v0.2 + 1 := by omega
  have N5 := num3 t4 n4 (by omega)
  rw [u3] at N5
  by_cases d4 : isD t n (v0.2 + 1)
  rotate_left
  · rw [if_pos d4]
    have z : wJ5 w 31 0 = v0.2 + 1 := N5.2 d4
    exact (c5 (by omega)).trans z
  rw [if_neg (not_not_intro d4)]
  obtain ⟨s1, s2, s3⟩ : wJ5 w 31 0 = wJ4 w 31 0 ∧ wJ5 w 30 0 = (nmR t n (v0.2 + 1)).2 ∧ wJ5 w 32 0 = (nmR t n (v0.2 + 1)).1 := N5.1 d4
  have q4 := nmR_p d4
  clear N5
  generalize nmR t n (v0.2 + 1) = r0 at *
  show (hrC t n r0.2 ≠ 58 → wJ6 w 31 0 = r0.2) ∧ (hrC t n r0.2 = 58 → wJ6 w 31 0 = w 31 0 ∧ wJ6 w 30 0 = r0.2 + 1) ∧ sup (sup (sup (fun _ => 0) 0 y0.1) 1 v0.1) 2 r0.1 0 = wJ1 w 32 0 ∧ sup (sup (sup (fun _ => 0) 0 y0.1) 1 v0.1) 2 r0.1 1 = wJ3 w 32 0 ∧ sup (sup (sup (fun _ => 0) 0 y0.1) 1 v0.1) 2 r0.1 2 = wJ5 w 32 0
  refine ⟨fun z => ?_, fun z => ?_, ?_, ?_, ?_⟩
  · have q : wJ6 w 31 0 = wJ5 w 30 0 := wants_n t5 n5 (by omega) (by rw [s2]; exact z)
    exact q.trans s2
  · obtain ⟨q1, q3⟩ : wJ6 w 31 0 = wJ5 w 31 0 ∧ wJ6 w 30 0 = wJ5 w 30 0 + 1 := wants_y t5 n5 (by omega) (by decide) (by rw [s2]; exact z)
    exact ⟨by omega, by omega⟩
  · rw [sup_n (by decide), sup_n (by decide), sup_s, x3]
  · rw [sup_n (by decide), sup_s, z3]
  · rw [sup_s, s3]
end RTi
