/-! ===== what the reference's public methods keep ===== -/
def TA (w : tW) : Prop := TI w ∧ ACy (w 0) (w 13)
/-- built orders have no cycle -/
theorem BI.ac {s g fx : Nat → Int} (h : BI s g fx) (hg : ∀ j : Int, 0 ≤ j → j < s 0 → g j.toNat = sLen s j) (o : Nat → Int) : ACy s o := by
  have hO := h.whole hg
  have hA := h.A
  refine ⟨fx, fun k k0 k1 => ?_⟩
  obtain ⟨a1, a2, -, -, a5, -⟩ := hA.2.1.2 k k0 k1
  have hi : inO s g k := ⟨⟨k0, k1⟩, by rw [hg _ a1.1 a1.2]; exact a5.2⟩
  refine ⟨(h.F k hi).1, h.R k hi, fun q => ?_⟩
  obtain ⟨p1, p2⟩ := hO.pos ⟨k0, k1⟩ a2
  have e : sAh s o k = sOr s (sMc s k) (sPos s k - 1) ∧ 1 ≤ sPos s k := by
    have := (sAh_ok (o := o) hA hO k0 k1).resolve_left q
    refine ⟨?_, this.2.2.2.1⟩
    unfold sAh
    rw [if_neg (by rw [this.1]; omega), if_neg (by have := this.2.2.2.1; omega)]
  have m := h.M (sMc s k) (sPos s k - 1) a2.1 a2.2 (by omega) (by omega)
  rw [show sPos s k - 1 + 1 = sPos s k by omega, p1.2.1] at m
  rw [e.1]
  exact m
theorem TI.of {w w' : tW} (h : TI w) (hA : WfA (w' 0)) (hO : WfO (w' 0)) (h13 : w' 13 = w 13) (h14 : w' 14 = w 14) (h15 : w' 15 = w 15) (h22 : w' 22 = w 22) : TI w' := by
  refine ⟨hA, hO, ?_, ?_, ?_, ?_⟩
  · rw [h13]; exact h.2.2.1
  · rw [h14]; exact h.2.2.2.1
  · rw [h15]; exact h.2.2.2.2.1
  · rw [h22]; exact h.2.2.2.2.2
theorem bQ_TA {w w' : tW} {u t v : Int} {s g fx : Nat → Int} (hI : TI w) (ht : 0 ≤ t ∧ t ≤ 999) (hB : BI s g fx) (h : bQ w u t s g fx v w') : TA w' ∧ 0 ≤ v := by
  obtain ⟨rd, st, h1, h2, h3, h4, h5, h6⟩ := h
  obtain ⟨b1, b2, b3⟩ := bld_ok (u := u) (t := t) ht 20 _ _ _ hB (by have := hB.rr; omega)
  have hB21 : bld u t 21 s g fx = bld u t (20 + 1) s g fx := rfl
  rw [← hB21] at b1 b2 b3
  have hg : ∀ j : Int, 0 ≤ j → j < (bld u t 21 s g fx).1 0 → (bld u t 21 s g fx).2.1 j.toNat = sLen (bld u t 21 s g fx).1 j := fun j j0 j1 => by
    rw [b3 0 (by omega)] at j1
    have h05 := hB.A.1.1
    rw [b2 j j0 j1]
    exact (b3 _ (by omega)).symm
  have hO := b1.whole hg
  have hA := b1.A
  have hC := b1.ac hg (w 13)
  refine ⟨⟨hI.of (by rw [h4]; exact hA) (by rw [h4]; exact hO) (h3 13 (by decide)) (h3 14 (by decide)) (h3 15 (by decide)) (h3 22 (by decide)), by rw [h4, h3 13 (by decide)]; exact hC⟩, ?_⟩
  exact MkR.nn hA hO ⟨rd, st, h1, h2, h6⟩ hC
theorem dispatch_TA {w w' : tW} {u v : Int} (hI : TI w) (h : bQ w u 0 (sClr (w 0) 4) (gClr (w 18) 5) (w 19) v w') : TA w' ∧ 0 ≤ v := bQ_TA hI (by omega) (BI.clr hI.1) h
theorem repair_TA {w w' : tW} {u t v : Int} (hI : TA w) (ht : 0 ≤ t ∧ t ≤ 999) (h : repQ w u t v w') : TA w' ∧ 0 ≤ v := by
  obtain ⟨rd, st, g, fx, h1, h2, h3, h4⟩ := h
  have h20 := hI.1.1.2.1.1
  have h0 := hI.2.u0 hI.1.1 hI.1.2.1 h2
  exact bQ_TA hI.1 ht (h3.bi hI.1.1 hI.1.2.1 h1 hI.1.2.2.1 (fun k k0 k1 => cntU_0.mp h0 k.toNat (by omega)) ht.2) h4
/-- rows that agree on their 203 numbers -/
theorem WfO.cg {s s' : Nat → Int} (hA : WfA s) (h : WfO s) (e : ∀ i : Nat, i < 203 → s' i = s i) : WfO s' := by
  have h20 := hA.2.1.1
  intro z z0 z1
  obtain ⟨o1, o2, o3, o4⟩ := h z z0 z1
  have on : sOn s' z = sOn s z := e _ (by omega)
  have e1 : s' 1 = s 1 := e 1 (by omega)
  have orr : ∀ p : Int, 0 ≤ p → p < sOn s z → sOr s' z p = sOr s z p := fun p p0 p1 => e _ (by omega)
  have mc : ∀ k : Int, 0 ≤ k → k < s 1 → sMc s' k = sMc s k := fun k k0 k1 => e _ (by omega)
  rw [on, e1]
  refine ⟨o1, fun p p0 p1 => ?_, fun p q p0 p1 q0 q1 h => ?_, fun k k0 k1 q => ?_⟩
  · obtain ⟨d1, d2⟩ := o2 p p0 p1
    rw [orr p p0 p1, mc _ d1.1 d1.2]
    exact ⟨d1, d2⟩
  · rw [orr p p0 p1, orr q q0 q1] at h
    exact o3 p q p0 p1 q0 q1 h
  · rw [mc k k0 k1] at q
    obtain ⟨p, p0, p1, p2⟩ := o4 k k0 k1 q
    exact ⟨p, p0, p1, by rw [orr p p0 p1]; exact p2⟩
theorem ACy.cg {s s' o : Nat → Int} (hA : WfA s) (hO : WfO s) (h : ACy s o) (e : ∀ i : Nat, i < 203 → s' i = s i) : ACy s' o := by
  obtain ⟨r, hr⟩ := h
  have h20 := hA.2.1.1
  have h05 := hA.1.1
  refine ⟨r, fun k k0 k1 => ?_⟩
  rw [e 1 (by omega)] at k1
  obtain ⟨a1, a2, a3, a4, a5, a6⟩ := hA.2.1.2 k k0 k1
  have hl := (hA.1.2 _ a1.1 a1.2).2.2.2
  have ix : sIx s' k = sIx s k := e _ (by omega)
  have jb : sJb s' k = sJb s k := e _ (by omega)
  have mc : sMc s' k = sMc s k := e _ (by omega)
  have orr : ∀ p : Int, 0 ≤ p → p < 5 → sOr s' (sMc s k) p = sOr s (sMc s k) p := fun p p0 p1 => e _ (by omega)
  have eb : sBef s' k = sBef s k := by
    unfold sBef
    rw [ix, jb]
    split
    · rfl
    · exact e _ (by omega)
  have ep : sPos s' k = sPos s k := by
    unfold sPos
    rw [mc, orr 0 (by omega) (by omega), orr 1 (by omega) (by omega), orr 2 (by omega) (by omega), orr 3 (by omega) (by omega)]
  have pr := sPos_r s k
  have ea : sAh s' o k = sAh s o k := by
    unfold sAh
    rw [mc, ep]
    split
    · rfl
    · split
      · rfl
      · exact orr _ (by omega) (by omega)
  rw [eb, ea]
  exact hr k k0 k1
theorem chg_TA {w w' : tW} {s1 : Nat → Int} {v : Int} (hI : TA w) (hA : WfA s1) (hO : WfO s1) (h : chg w s1 v w') : TA w' := by
  obtain ⟨rd, st, h1, h2, h3, h4⟩ := h
  have f13 := h3 13 (by decide)
  rcases h4 with ⟨c, -, e, -⟩ | ⟨c, e, -⟩
  · exact ⟨hI.1.of (by rw [e]; exact hA) (by rw [e]; exact hO) f13 (h3 14 (by decide)) (h3 15 (by decide)) (h3 22 (by decide)), by rw [e, f13]; exact ACy.of hA hO h1 c⟩
  · exact ⟨hI.1.of (hI.1.1.congr fun i hi => e i (by omega)) (hI.1.2.1.cg hI.1.1 e) f13 (h3 14 (by decide)) (h3 15 (by decide)) (h3 22 (by decide)), by rw [f13]; exact hI.2.cg hI.1.1 hI.1.2.1 e⟩
theorem reo_TA {w w' : tW} {m v : Int} (hI : TA w) (hm : 0 ≤ m ∧ m ≤ 3) (h : reoQ w m v w') : TA w' := by
  obtain ⟨bm, bo, h1, -, h2, h3, -⟩ := h
  have h5 := (hI.1.2.1 m hm.1 hm.2).1
  have em : ((m.toNat : Nat) : Int) = m := by omega
  have hn : sOn (w 0) (m.toNat : Nat) = (sOn (w 0) m).toNat := by rw [em]; omega
  obtain ⟨z1, z2, z3⟩ := h1.own hI.1.1 hI.1.2.1 (by omega) hn (isPm.own hI.1.2.1 (by omega) hn) (by rw [sPut_i]; exact hI.2)
  obtain ⟨wA, wO⟩ := sPut_W hI.1.1 hI.1.2.1 (by omega) hn z2
  have f13 := h3 13 (by decide)
  exact ⟨hI.1.of (by rw [h2]; exact wA) (by rw [h2]; exact wO) f13 (h3 14 (by decide)) (h3 15 (by decide)) (h3 22 (by decide)), by rw [h2, f13]; exact z3.ac wA wO z1⟩

