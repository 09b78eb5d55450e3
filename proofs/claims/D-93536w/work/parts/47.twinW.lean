/-! ===== the reference: readJob ===== -/
theorem rdI.num_p {w : tW} (h : rdI w) {q : Nat} (hq : 1 ≤ q ∧ q ≤ 3) : w 30 0 ≤ wNum w q 30 0 := by
  obtain ⟨h1, h2, h3, h4⟩ := h
  have z := nmF_r (t := w 4) (L := w 5 0) (e := w 30 0 + q) q (w 30 0) 0 ⟨by omega, by omega, by omega, by omega, by omega, by omega⟩ (by omega) (by omega)
  unfold wNum
  split
  · split
    · rw [tset_f (by decide), wNP_30]; omega
    · rw [wNP_30]; omega
  · rw [wNP_30]; omega
theorem wWants_p {w : tW} {c : Int} : w 30 0 ≤ wWants w c 30 0 := by
  unfold wWants
  split
  · rw [tset_f (by decide), tset_s]; omega
  · rw [tset_s]; have := tk_r w c; omega
theorem wR5_p {w : tW} (h : rdI w) : w 30 0 ≤ wR5 w 30 0 := by
  obtain ⟨r1, r2, r3, r4, -⟩ := wR_ok h
  have a := h.num_p (q := 1) (by omega)
  have b : wR1 w 30 0 ≤ wR2 w 30 0 := wWants_p
  have c := r2.num_p (q := 3) (by omega)
  have d : wR3 w 30 0 ≤ wR4 w 30 0 := wWants_p
  have e := r4.num_p (q := 1) (by omega)
  have a' : w 30 0 ≤ wR1 w 30 0 := a
  have c' : wR2 w 30 0 ≤ wR3 w 30 0 := c
  have e' : wR4 w 30 0 ≤ wR5 w 30 0 := e
  omega
/-- the reader's world, with its row -/
def rdJ (w : tW) : Prop := rdI w ∧ WfA (w 0) ∧ WfO (w 0) ∧ (-1 ≤ w 33 0 ∧ w 33 0 ≤ 1000) ∧ -1 ≤ w 34 0 ∧ w 34 0 ≤ 1000
/-- what goes on from world to world while reading -/
def rdS (w w' : tW) : Prop := rdJ w' ∧ w 30 0 ≤ w' 30 0 ∧ (w 33 0 ≠ -1 → w' 33 0 ≠ -1) ∧ (∀ o, ACy (w 0) o → ACy (w' 0) o) ∧ Fr [0, 30, 31, 32, 33, 34, 35] w w'
theorem rdS.trans {w w1 w2 : tW} (h : rdS w w1) (g : rdS w1 w2) : rdS w w2 := ⟨g.1, by have := h.2.1; have := g.2.1; omega, fun q => g.2.2.1 (h.2.2.1 q), fun o q => g.2.2.2.1 o (h.2.2.2.1 o q), fun f hf => (g.2.2.2.2 f hf).trans (h.2.2.2.2 f hf)⟩
theorem rdI.eq {w w' : tW} (h : rdI w) (e4 : w' 4 = w 4) (e5 : w' 5 = w 5) (e30 : w' 30 = w 30) (e31 : w' 31 = w 31) : rdI w' := by
  unfold rdI
  rw [e4, e5, e30, e31]
  exact h
theorem rOp_S {w w' : tW} {job idx made : Int} (h : rdJ w) (hjb : 0 ≤ job ∧ job ≤ 1000) (hmd : w 33 0 = -1 → 0 ≤ made ∧ made < w 0 0) (hq : rOp w job idx made w') : rdS w w' ∧ w' 0 0 = w 0 0 := by
  obtain ⟨hI, hA, hO, h33, h34⟩ := h
  obtain ⟨r1, r2, r3, r4, r5, n1, n3, n5, kf, ff⟩ := wR_ok hI
  have hp := wR5_p hI
  have e0 : wR5 w 0 = w 0 := ff 0 (by decide) (by decide) (by decide)
  have e33 : wR5 w 33 = w 33 := ff 33 (by decide) (by decide) (by decide)
  have e34 : wR5 w 34 = w 34 := ff 34 (by decide) (by decide) (by decide)
  have fr : Fr [0, 30, 31, 32, 33, 34, 35] w (wR5 w) := fun f hf => ff f (fun e => hf (by rw [e]; decide)) (fun e => hf (by rw [e]; decide)) (fun e => hf (by rw [e]; decide))
  rcases hq with ⟨c, rfl⟩ | ⟨c, ok, rfl⟩ | ⟨c, nok, rfl⟩
  · exact ⟨⟨⟨r5, by rw [e0]; exact hA, by rw [e0]; exact hO, by rw [e33]; exact h33, by rw [e34]; exact h34⟩, hp, fun q => by rw [e33]; exact q, fun o q => by rw [e0]; exact q, fr⟩, by rw [e0]⟩
  · have hmd := hmd c.2
    have l4 := (hA.1.2 made hmd.1 hmd.2).2.2.2
    have hL : sLen (w 0) made < 4 := by have := ok.2.2.1; omega
    have wA := sNO_A hA hO hmd ok.1 ok.2.1.1 ok.2.1.2 hL ok.no
    have wO := sNO_O hA hO hmd ok.1 ok.2.1.1 ok.2.1.2 hL ok.no
    have wC := fun o => sNO_C (o := o) hA hO hmd ok.1 ok.2.1.1 ok.2.1.2 hL ok.no
    have e : wOp (wR5 w) made (wR1 w 32 0) (wR3 w 32 0) (wR5 w 32 0) 0 = sNO (w 0) made (wR1 w 32 0) (wR3 w 32 0) (wR5 w 32 0) := by rw [wOp_0, e0]
    have h05 := hA.1.1
    have hro := room_op hA hmd hL
    have h20 := hA.2.1.1
    have hrn := room_on hA hO hmd ok.1 ok.no
    have hrm := (hO _ ok.1.1 ok.1.2).1
    have ok1 := ok.1
    refine ⟨⟨⟨r5.eq (wOp_f (by decide)) (wOp_f (by decide)) (wOp_f (by decide)) (wOp_f (by decide)), by rw [e]; exact wA, by rw [e]; exact wO, by rw [wOp_f (by decide), e33]; exact h33, by rw [wOp_f (by decide), e34]; exact h34⟩, by rw [wOp_f (by decide)]; exact hp, fun q => by rw [wOp_f (by decide), e33]; exact q, fun o q => by rw [e]; exact wC o q, fun f hf => by rw [wOp_f (fun e => hf (by rw [e]; decide))]; exact fr f hf⟩, by rw [e]; exact sNO_n (by omega)⟩
  · refine ⟨⟨⟨r5.eq rfl rfl rfl rfl, by show WfA (wR5 w 0); rw [e0]; exact hA, by show WfO (wR5 w 0); rw [e0]; exact hO, ?_⟩, hp, fun q => absurd c.2 q, fun o q => by show ACy (wR5 w 0) o; rw [e0]; exact q, fun f hf => by rw [tset_g (fun e => hf (by rw [e]; decide)), tset_g (fun e => hf (by rw [e]; decide)), tset_g (fun e => hf (by rw [e]; decide))]; exact fr f hf⟩, by show wR5 w 0 0 = _; rw [e0]⟩
    refine ⟨?_, ?_⟩
    · rw [tset_f (by decide), tset_f (by decide), tset_s]
      omega
    · rw [tset_f (by decide), tset_s]
      omega
theorem takes_S {w : tW} (h : rdJ w) (c : Int) : rdS w (tset w 30 0 (w 30 0 + tk w c)) := by
  have := tk_r w c
  exact ⟨⟨h.1.takes c, h.2.1, h.2.2.1, h.2.2.2⟩, by rw [tset_s]; omega, fun q => q, fun o q => q, fun f hf => tset_g (fun e => hf (by rw [e]; decide))⟩

