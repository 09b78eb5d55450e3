/-! ===== a text is read: operations, jobs, the whole (plain) ===== -/
section RTj
variable {t : Nat → Int} {n : Nat}
theorem rL_flt {job made : Int} {i : Int} {w w' : tW} (h31 : 0 ≤ w 31 0) : ∀ f : Nat, rL job made f i w w' → w' = w
  | 0, h => h.elim
  | f + 1, h => by
    rcases h with ⟨-, e⟩ | ⟨c, -⟩
    · exact e
    · omega
/-- what the latest failure to create is: as before -/
def sm33 (w w' : tW) : Prop := w' 33 0 = w 33 0 ∧ w' 34 0 = w 34 0 ∧ w' 35 0 = w 35 0
theorem sm33.tr {a b c : tW} (h : sm33 a b) (k : sm33 b c) : sm33 a c := ⟨k.1.trans h.1, k.2.1.trans h.2.1, k.2.2.trans h.2.2⟩
theorem opsT {job made : Int} (hjb : 0 ≤ job ∧ job ≤ 1000) (hn : n ≤ 80) : ∀ (f r k : Nat) (o : Nat → Int × Int × Int) (w w' : tW), rdJ w → (w 33 0 = -1 → 0 ≤ made ∧ made < w 0 0) → w 4 = t → w 5 0 = n → w 31 0 < 0 → 6 * (20 - (r : Int)) ≤ w 30 0 → rL job made f k w w' → match opA t n r k o (w 30 0) with
    | .inr e => 0 ≤ e ∧ w' 31 0 = e
    | .inl x => w' 31 0 < 0 ∧ w' 30 0 = x.2.2 ∧ k < x.1 ∧ (∀ i, i < k → x.2.1 i = o i) ∧ (w 33 0 ≠ -1 → sm33 w w') ∧ (w 33 0 = -1 → match crO made x.2.1 (x.1 - k) k (w 0) with
      | .inl s => w' 33 0 = -1 ∧ w' 0 = s
      | .inr i => w' 33 0 = job ∧ w' 34 0 = 3 ∧ w' 35 0 = i)
  | 0, r, k, o, w, w', _, _, _, _, _, _, h => h.elim
  | f + 1, r, k, o, w, w', hJ, hmd, h4, h5, h31, hr, h => by
    rcases h with ⟨c, -⟩ | ⟨c, w1, h1, h2⟩
    · omega
    have p1 := hJ.1.2.1
    obtain ⟨r, rfl⟩ : ∃ r', r = r' + 1 := ⟨r - 1, by omega⟩
    have O := opT hJ.1 h4 h5 c
    obtain ⟨S, s00⟩ := rOp_S hJ hjb hmd h1
    obtain ⟨-, -, -, -, -, -, -, -, -, ff⟩ := wR_ok hJ.1
    have f33 := congrFun (ff 33 (by decide) (by decide) (by decide)) 0
    have f34 := congrFun (ff 34 (by decide) (by decide) (by decide)) 0
    have f35 := congrFun (ff 35 (by decide) (by decide) (by decide)) 0
    have f0 := ff 0 (by decide) (by decide) (by decide)
    have w14 : w1 4 = t := (S.2.2.2.2 4 (by decide)).trans h4
    have w15 : w1 5 0 = n := (congrFun (S.2.2.2.2 5 (by decide)) 0).trans h5
    unfold opA
    rcases hq : opP t n (w 30 0) with ⟨m, u, fa, q⟩ | e
    · rw [hq] at O
      obtain ⟨o1, o2, o3, o4, o5⟩ := O
      dsimp only at o2 o3 o4 o5
      dsimp only
      have A : w1 31 0 = w 31 0 ∧ w1 30 0 = q := by
        rcases h1 with ⟨-, rfl⟩ | ⟨-, -, rfl⟩ | ⟨-, -, rfl⟩
        · exact ⟨o1, o2⟩
        · rw [wOp_f (by decide), wOp_f (by decide)]; exact ⟨o1, o2⟩
        · rw [tset_f (by decide), tset_f (by decide), tset_f (by decide), tset_f (by decide), tset_f (by decide), tset_f (by decide)]; exact ⟨o1, o2⟩
      have st1 : w 33 0 ≠ -1 → sm33 w w1 := fun z => by
        rcases h1 with ⟨-, rfl⟩ | ⟨⟨-, y⟩, -⟩ | ⟨⟨-, y⟩, -⟩
        · exact ⟨f33, f34, f35⟩
        · exact absurd y z
        · exact absurd y z
      have st2 : w 33 0 = -1 → (opOk (w 0) made m u fa ∧ w1 33 0 = -1 ∧ w1 0 = sNO (w 0) made m u fa) ∨ (¬ opOk (w 0) made m u fa ∧ w1 33 0 = job ∧ w1 34 0 = 3 ∧ w1 35 0 = k) := fun z => by
        rcases h1 with ⟨y | y, -⟩ | ⟨-, y, rfl⟩ | ⟨-, y, rfl⟩
        · omega
        · exact absurd z y
        · rw [o3, o4, o5] at y ⊢
          exact Or.inl ⟨y, by rw [wOp_f (by decide), f33]; exact z, by rw [wOp_0, f0]⟩
        · rw [o3, o4, o5] at y
          exact Or.inr ⟨y, by rw [tset_f (by decide), tset_f (by decide), tset_s], by rw [tset_f (by decide), tset_s], tset_s⟩
      have hq5 := opP_ok hq
      by_cases s47 : hrC t n q = 47
      · rw [if_pos s47]
        have tk1 : tk w1 47 = 1 := tk_y w14 w15 (by omega) (by decide) (by rw [A.2]; exact s47)
        have h3 := (h2.resolve_left (fun y => by rw [tk1] at y; omega)).2
        rw [tk1] at h3
        have S2 := takes_S S.1 47
        rw [tk1] at S2
        generalize hw2 : tset w1 30 0 (w1 30 0 + 1) = w2 at *
        have e30 : w2 30 0 = q + 1 := by rw [← hw2, tset_s, A.2]
        have ew : ∀ y, y ≠ 30 → w2 y = w1 y := fun y hy => by rw [← hw2]; exact tset_g hy
        have h3' : rL job made f ((k + 1 : Nat) : Int) w2 w' := by rw [show ((k + 1 : Nat) : Int) = (k : Int) + 1 by omega]; exact h3
        have IH := opsT hjb hn f r (k + 1) (fun i => if i = k then (m, u, fa) else o i) w2 w' S2.1 (fun y => ?_) (by rw [ew 4 (by decide)]; exact w14) (by rw [ew 5 (by decide)]; exact w15) (by rw [ew 31 (by decide)]; omega) (by rw [e30]; omega) h3'
        rotate_left
        · rw [ew 33 (by decide)] at y
          rw [ew 0 (by decide), s00]
          exact hmd (Classical.byContradiction fun x => S.2.2.1 x y)
        rw [e30] at IH
        rcases hh : opA t n r (k + 1) (fun i => if i = k then (m, u, fa) else o i) (q + 1) with x | e
        · rw [hh] at IH
          obtain ⟨j1, j2, j3, j4, j5, j6⟩ := IH
          have ok : x.2.1 k = (m, u, fa) := (j4 k (by omega)).trans (if_pos rfl)
          refine ⟨j1, j2, by omega, fun i hi => (j4 i (by omega)).trans (if_neg (by omega)), fun z => (st1 z).tr ?_, fun z => ?_⟩
          · have := j5 (by rw [ew 33 (by decide), (st1 z).1]; exact z)
            unfold sm33 at this
            rw [ew 33 (by decide), ew 34 (by decide), ew 35 (by decide)] at this
            exact this
          · rw [show x.1 - k = (x.1 - (k + 1)) + 1 by omega]
            unfold crO
            rw [ok]
            dsimp only
            rcases st2 z with ⟨y1, y2, y3⟩ | ⟨y1, y2, y3, y4⟩
            · rw [if_pos (bP_t y1), ← y3, ← ew 0 (by decide)]
              exact j6 (by rw [ew 33 (by decide)]; exact y2)
            · rw [if_neg (by rw [bP_f y1]; decide)]
              have := j5 (by rw [ew 33 (by decide), y2]; omega)
              unfold sm33 at this
              rw [ew 33 (by decide), ew 34 (by decide), ew 35 (by decide), y2, y3, y4] at this
              exact this
        · rw [hh] at IH
          exact IH
      · rw [if_neg s47]
        have tk0 : tk w1 47 = 0 := tk_n w14 w15 (by rw [A.2]; exact s47)
        obtain ⟨-, rfl⟩ := h2.resolve_right (fun y => by rw [tk0] at y; omega)
        rw [tk0]
        have ew : ∀ y, y ≠ 30 → tset w1 30 0 (w1 30 0 + 0) y = w1 y := fun y hy => tset_g hy
        refine ⟨by rw [ew 31 (by decide)]; omega, by rw [tset_s, A.2]; exact Int.add_zero q, by show k < k + 1; omega, fun i hi => if_neg (by omega), fun z => ?_, fun z => ?_⟩
        · unfold sm33
          rw [ew 33 (by decide), ew 34 (by decide), ew 35 (by decide)]
          exact st1 z
        · show match crO made (fun i => if i = k then (m, u, fa) else o i) (k + 1 - k) k (w 0) with
            | .inl s => tset w1 30 0 (w1 30 0 + 0) 33 0 = -1 ∧ tset w1 30 0 (w1 30 0 + 0) 0 = s
            | .inr i => tset w1 30 0 (w1 30 0 + 0) 33 0 = job ∧ tset w1 30 0 (w1 30 0 + 0) 34 0 = 3 ∧ tset w1 30 0 (w1 30 0 + 0) 35 0 = i
          rw [ew 33 (by decide), ew 34 (by decide), ew 35 (by decide), ew 0 (by decide), show k + 1 - k = 0 + 1 by omega]
          unfold crO
          rw [show (if k = k then (m, u, fa) else o k) = (m, u, fa) from if_pos rfl]
          dsimp only
          rcases st2 z with ⟨y1, y2, y3⟩ | ⟨y1, y2, y3, y4⟩
          · rw [if_pos (bP_t y1)]
            exact ⟨y2, y3⟩
          · rw [if_neg (by rw [bP_f y1]; decide)]
            exact ⟨y2, y3, y4⟩
    · rw [hq] at O
      dsimp only at O
      have e0 := opP_fl (by omega) hq
      have hw1 : w1 = wR5 w := by
        rcases h1 with ⟨-, rfl⟩ | ⟨⟨y, -⟩, -⟩ | ⟨⟨y, -⟩, -⟩
        · rfl
        · omega
        · omega
      have tk0 : tk w1 47 = 0 := tk_f (by rw [hw1, O]; omega)
      obtain ⟨-, rfl⟩ := h2.resolve_right (fun y => by rw [tk0] at y; omega)
      exact ⟨by omega, by rw [tset_f (by decide), hw1]; exact O⟩
theorem isJV_iff {a b c : Int} : isJV a b c ↔ (jpOk 0 a ∧ jpOk 1 b ∧ jpOk 2 c) := by
  unfold jpOk
  rw [if_pos rfl, if_neg (by decide), if_pos rfl, if_neg (by decide), if_neg (by decide)]
/-- a job's text -/
theorem jbT {job : Int} {w w1 : tW} (hjb : 0 ≤ job ∧ job ≤ 1000) (hn : n ≤ 80) (hJ : rdJ w) (h4 : w 4 = t) (h5 : w 5 0 = n) (h31 : w 31 0 < 0) (h : rJb w job w1) : match jbP t n (w 30 0) with
    | .inr e => 0 ≤ e ∧ w1 31 0 = e
    | .inl x => w1 31 0 < 0 ∧ w1 30 0 = x.2.2.2 ∧ (w 33 0 ≠ -1 → sm33 w w1) ∧ (w 33 0 = -1 → match crJ (w 0) (x.1, x.2.1, x.2.2.1) with
      | .inl s => w1 33 0 = -1 ∧ w1 0 = s
      | .inr y => w1 33 0 = job ∧ w1 34 0 = y.1 ∧ w1 35 0 = y.2) := by
  obtain ⟨W7, W, made, f, h7, h8, h9⟩ := h
  have p1 := hJ.1.2.1
  have H := hdT hJ.1 h4 h5 h31
  obtain ⟨S, hmd⟩ := rJ8_ok hJ hjb h7 h8
  obtain ⟨-, -, -, -, -, -, -, -, -, -, ff⟩ := wJ_ok hJ.1
  have f33 := congrFun (ff 33 (by decide) (by decide) (by decide)) 0
  have f34 := congrFun (ff 34 (by decide) (by decide) (by decide)) 0
  have f35 := congrFun (ff 35 (by decide) (by decide) (by decide)) 0
  have f0 := ff 0 (by decide) (by decide) (by decide)
  have cn : ∀ y g, g ≠ 33 → g ≠ 34 → g ≠ 35 → wCn (wJ6 w) job y g = wJ6 w g := fun y g g1 g2 g3 => by
    unfold wCn
    split
    · rw [tset_g g3, tset_g g2, tset_g g1]
    · rfl
  have e7 : ∀ g, g ≠ 33 → g ≠ 34 → g ≠ 35 → W7 g = wJ6 w g := fun g g1 g2 g3 => by
    rcases h7 with ⟨-, rfl⟩ | ⟨-, -, rfl⟩ | ⟨-, -, rfl⟩
    · exact cn _ g g1 g2 g3
    · exact cn _ g g1 g2 g3
    · rfl
  have e8 : ∀ g, g ≠ 0 → W g = W7 g := fun g g0 => by
    rcases h8 with ⟨-, rfl, -⟩ | ⟨-, rfl, -⟩
    · exact wJob_f g0
    · rfl
  have W31 : W 31 0 = wJ6 w 31 0 := by rw [e8 31 (by decide), e7 31 (by decide) (by decide) (by decide)]
  have W30 : W 30 0 = wJ6 w 30 0 := by rw [e8 30 (by decide), e7 30 (by decide) (by decide) (by decide)]
  have W4 : W 4 = t := (S.2.2.2.2 4 (by decide)).trans h4
  have W5 : W 5 0 = n := (congrFun (S.2.2.2.2 5 (by decide)) 0).trans h5
  have hp := hdL_p (t := t) (n := n) 3 0 (fun _ => 0) (w 30 0) (by omega)
  unfold jbP
  rcases hq : hdL t n 3 0 (fun _ => 0) (w 30 0) with ⟨v, q⟩ | e
  · rw [hq] at H
    obtain ⟨x1, x2, x3, x4, x5⟩ := H
    dsimp only at x1 x2 x3 x4 x5
    dsimp only
    have q0 := hp.1 v q hq
    by_cases s58 : hrC t n q = 58
    · rw [if_neg (not_not_intro s58)]
      obtain ⟨y1, y2⟩ := x2 s58
      have T := opsT (t := t) (n := n) (made := made) hjb hn f 20 0 (fun _ => (0, 0, 0)) W w1 S.1 (fun z => hmd z (by rw [e7 31 (by decide) (by decide) (by decide)]; omega)) W4 W5 (by rw [W31]; omega) (by rw [W30]; omega) h9
      rw [W30, y2] at T
      rcases hh : opA t n 20 0 (fun _ => (0, 0, 0)) (q + 1) with ⟨k, o, e⟩ | e
      · rw [hh] at T
        obtain ⟨j1, j2, j3, j4, j5, j6⟩ := T
        dsimp only at j1 j2 j3 j4 j5 j6
        dsimp only
        refine ⟨j1, j2, fun z => ?_, fun z => ?_⟩
        · have c6 : ∀ y, wCn (wJ6 w) job y = wJ6 w := fun y => if_neg (by rw [f33]; exact z)
          have e6 : W7 = wJ6 w := by
            rcases h7 with ⟨-, rfl⟩ | ⟨-, -, rfl⟩ | ⟨-, -, rfl⟩
            · exact c6 _
            · exact c6 _
            · rfl
          have k1 : sm33 w W := ⟨by rw [e8 33 (by decide), e6]; exact f33, by rw [e8 34 (by decide), e6]; exact f34, by rw [e8 35 (by decide), e6]; exact f35⟩
          exact k1.tr (j5 (by rw [k1.1]; exact z))
        · have c6 : ∀ y, wCn (wJ6 w) job y 33 0 = job ∧ wCn (wJ6 w) job y 34 0 = y ∧ wCn (wJ6 w) job y 35 0 = 0 := fun y => by
            unfold wCn
            rw [if_pos (by rw [f33]; exact z)]
            exact ⟨by rw [tset_f (by decide), tset_f (by decide), tset_s], by rw [tset_f (by decide), tset_s], tset_s⟩
          have bad : ∀ y, W7 = wCn (wJ6 w) job y → w1 33 0 = job ∧ w1 34 0 = y ∧ w1 35 0 = 0 := fun y ey => by
            obtain ⟨c1, c2, c3⟩ := c6 y
            have k1 : W 33 0 = job ∧ W 34 0 = y ∧ W 35 0 = 0 := ⟨by rw [e8 33 (by decide), ey]; exact c1, by rw [e8 34 (by decide), ey]; exact c2, by rw [e8 35 (by decide), ey]; exact c3⟩
            have := j5 (by rw [k1.1]; omega)
            unfold sm33 at this
            rw [k1.1, k1.2.1, k1.2.2] at this
            exact this
          unfold crJ
          dsimp only
          rcases h7 with ⟨c1, ey⟩ | ⟨c1, c2, ey⟩ | ⟨c1, c2, ey⟩
          · rw [if_pos c1]
            exact bad 1 ey
          · rw [← x3, ← x4, ← x5] at c2
            rw [if_neg c1, if_pos (fun y => c2 (isJV_iff.mp y))]
            exact bad 2 ey
          · rw [← x3, ← x4, ← x5] at c2
            rw [if_neg c1, if_neg (not_not_intro (isJV_iff.mpr c2))]
            have w33 : W7 33 0 = -1 := by rw [ey, f33]; exact z
            obtain ⟨-, eW, em⟩ := h8.resolve_right (fun y => y.1 ⟨w33, by rw [e7 31 (by decide) (by decide) (by decide)]; omega⟩)
            have W0 : W 0 = sNJ (w 0) (v 0) (v 1) (v 2) := by rw [eW, wJob_0, ey, f0, x3, x4, x5]
            have em : made = w 0 0 := by rw [em, ey, f0]
            have := j6 (by rw [e8 33 (by decide)]; exact w33)
            rw [W0, em, Nat.sub_zero] at this
            rcases hc : crO (w 0 0) o k 0 (sNJ (w 0) (v 0) (v 1) (v 2)) with s | i
            · rw [hc] at this
              exact this
            · rw [hc] at this
              exact this
      · rw [hh] at T
        exact T
    · rw [if_pos s58]
      have y := x1 s58
      have hw := rL_flt (by rw [W31]; omega) f h9
      exact ⟨by omega, by rw [hw, W31]; exact y⟩
  · rw [hq] at H
    have q0 := hp.2 e hq
    have H : wJ6 w 31 0 = e := H
    have hw := rL_flt (by rw [W31]; omega) f h9
    exact ⟨by omega, by rw [hw, W31]; exact H⟩
theorem jsT (hn : n ≤ 80) : ∀ (f r i : Nat) (J : Nat → tTJ) (w W : tW) (v : Int), rdJ w → w 4 = t → w 5 0 = n → w 31 0 < 0 → 7 * (20 - (r : Int)) ≤ w 30 0 → (i : Int) ≤ w 30 0 → rJs f i w W v → match rdA t n r i J (w 30 0) with
    | .inr e => 0 ≤ e ∧ rdF W 31 0 = e
    | .inl x => rdF W 31 0 < 0 ∧ v = x.1 ∧ i < x.1 ∧ (∀ y, y < i → x.2 y = J y) ∧ (w 33 0 ≠ -1 → sm33 w W) ∧ (w 33 0 = -1 → match crA x.2 (x.1 - i) i (w 0) with
      | .inl s => W 33 0 = -1 ∧ W 0 = s
      | .inr y => W 33 0 = y.1 ∧ W 34 0 = y.2.1 ∧ W 35 0 = y.2.2)
  | 0, r, i, J, w, W, v, _, _, _, _, _, _, h => h.elim
  | f + 1, r, i, J, w, W, v, hJ, h4, h5, h31, hr, hi, h => by
    rcases h with ⟨c, -⟩ | ⟨c, w1, h1, h2⟩
    · omega
    have p1 := hJ.1.2.1
    obtain ⟨r, rfl⟩ : ∃ r', r = r' + 1 := ⟨r - 1, by omega⟩
    have hjb : 0 ≤ (i : Int) ∧ (i : Int) ≤ 1000 := by omega
    have O := jbT hjb hn hJ h4 h5 c h1
    have S := rJb_S hJ hjb h1
    have w14 : w1 4 = t := (S.2.2.2.2 4 (by decide)).trans h4
    have w15 : w1 5 0 = n := (congrFun (S.2.2.2.2 5 (by decide)) 0).trans h5
    have hp := jbP_p (t := t) (n := n) (p := w 30 0) (by omega)
    have rF : ∀ W : tW, 0 ≤ W 31 0 → rdF W 31 0 = W 31 0 := fun W z => by
      unfold rdF
      rw [if_neg (by omega), tset_f (by decide)]
    unfold rdA
    rcases hq : jbP t n (w 30 0) with ⟨fv, k, o, q⟩ | e
    · rw [hq] at O
      obtain ⟨o1, o2, o3, o4⟩ := O
      dsimp only at o1 o2 o3 o4
      dsimp only
      have q0 := hp.1 fv k o q hq
      by_cases s59 : hrC t n q = 59
      · rw [if_pos s59]
        have tk1 : tk w1 59 = 1 := tk_y w14 w15 (by omega) (by decide) (by rw [o2]; exact s59)
        have h3 := (h2.resolve_left (fun y => by rw [tk1] at y; omega)).2
        rw [tk1] at h3
        have S2 := takes_S S.1 59
        rw [tk1] at S2
        generalize hw2 : tset w1 30 0 (w1 30 0 + 1) = w2 at *
        have e30 : w2 30 0 = q + 1 := by rw [← hw2, tset_s, o2]
        have ew : ∀ y, y ≠ 30 → w2 y = w1 y := fun y hy => by rw [← hw2]; exact tset_g hy
        have h3' : rJs f ((i + 1 : Nat) : Int) w2 W v := by rw [show ((i + 1 : Nat) : Int) = (i : Int) + 1 by omega]; exact h3
        have IH := jsT hn f r (i + 1) (fun x => if x = i then (fv, k, o) else J x) w2 W v S2.1 (by rw [ew 4 (by decide)]; exact w14) (by rw [ew 5 (by decide)]; exact w15) (by rw [ew 31 (by decide)]; omega) (by rw [e30]; omega) (by rw [e30]; omega) h3'
        rw [e30] at IH
        rcases hh : rdA t n r (i + 1) (fun x => if x = i then (fv, k, o) else J x) (q + 1) with x | e
        · rw [hh] at IH
          obtain ⟨j1, j2, j3, j4, j5, j6⟩ := IH
          have ok : x.2 i = (fv, k, o) := (j4 i (by omega)).trans (if_pos rfl)
          refine ⟨j1, j2, by omega, fun y hy => (j4 y (by omega)).trans (if_neg (by omega)), fun z => (o3 z).tr ?_, fun z => ?_⟩
          · have := j5 (by rw [ew 33 (by decide), (o3 z).1]; exact z)
            unfold sm33 at this
            rw [ew 33 (by decide), ew 34 (by decide), ew 35 (by decide)] at this
            exact this
          · rw [show x.1 - i = (x.1 - (i + 1)) + 1 by omega]
            unfold crA
            rw [ok]
            have o4 := o4 z
            rcases hc : crJ (w 0) (fv, k, o) with s | y
            · rw [hc] at o4
              dsimp only at o4
              dsimp only
              rw [← o4.2, ← ew 0 (by decide)]
              exact j6 (by rw [ew 33 (by decide)]; exact o4.1)
            · rw [hc] at o4
              dsimp only at o4
              dsimp only
              have := j5 (by rw [ew 33 (by decide), o4.1]; omega)
              unfold sm33 at this
              rw [ew 33 (by decide), ew 34 (by decide), ew 35 (by decide), o4.1, o4.2.1, o4.2.2] at this
              exact this
        · rw [hh] at IH
          exact IH
      · rw [if_neg s59]
        have tk0 : tk w1 59 = 0 := tk_n w14 w15 (by rw [o2]; exact s59)
        obtain ⟨-, rfl, rfl⟩ := h2.resolve_right (fun y => by rw [tk0] at y; omega)
        rw [tk0]
        have ew : ∀ y, y ≠ 30 → tset w1 30 0 (w1 30 0 + 0) y = w1 y := fun y hy => tset_g hy
        have e30 : tset w1 30 0 (w1 30 0 + 0) 30 0 = q := by rw [tset_s, o2]; exact Int.add_zero q
        by_cases sn : q < n
        · rw [if_pos sn]
          refine ⟨by omega, ?_⟩
          unfold rdF
          rw [if_pos ⟨by rw [ew 31 (by decide)]; omega, by rw [e30, ew 5 (by decide), w15]; exact sn⟩, tset_f (by decide), tset_s, e30]
        · rw [if_neg sn]
          refine ⟨?_, by show (i : Int) + 1 = ((i + 1 : Nat) : Int); omega, by show i < i + 1; omega, fun y hy => if_neg (by omega), fun z => ?_, fun z => ?_⟩
          · unfold rdF
            rw [if_neg (by rw [e30, ew 5 (by decide), w15]; exact fun y => sn y.2), tset_f (by decide), ew 31 (by decide)]
            exact o1
          · unfold sm33
            rw [ew 33 (by decide), ew 34 (by decide), ew 35 (by decide)]
            exact o3 z
          · show match crA (fun x => if x = i then (fv, k, o) else J x) (i + 1 - i) i (w 0) with
              | .inl s => tset w1 30 0 (w1 30 0 + 0) 33 0 = -1 ∧ tset w1 30 0 (w1 30 0 + 0) 0 = s
              | .inr y => tset w1 30 0 (w1 30 0 + 0) 33 0 = y.1 ∧ tset w1 30 0 (w1 30 0 + 0) 34 0 = y.2.1 ∧ tset w1 30 0 (w1 30 0 + 0) 35 0 = y.2.2
            rw [ew 33 (by decide), ew 34 (by decide), ew 35 (by decide), ew 0 (by decide), show i + 1 - i = 0 + 1 by omega]
            unfold crA
            rw [show (if i = i then (fv, k, o) else J i) = (fv, k, o) from if_pos rfl]
            have o4 := o4 z
            rcases hc : crJ (w 0) (fv, k, o) with s | y
            · rw [hc] at o4
              exact o4
            · rw [hc] at o4
              exact o4
    · rw [hq] at O
      obtain ⟨e0, O⟩ : 0 ≤ e ∧ w1 31 0 = e := O
      have tk0 : tk w1 59 = 0 := tk_f (by rw [O]; omega)
      obtain ⟨-, rfl, rfl⟩ := h2.resolve_right (fun y => by rw [tk0] at y; omega)
      refine ⟨e0, ?_⟩
      rw [rF _ (by rw [tset_f (by decide), O]; exact e0), tset_f (by decide), O]
/-- the fields that reading leaves -/
def rdFr (w w' : tW) : Prop := w' 5 = tset w 5 0 0 5 ∧ ∀ f, f = 1 ∨ f = 2 ∨ f = 4 ∨ f = 8 ∨ f = 9 ∨ f = 10 → w' f = w f
abbrev J00 : Nat → tTJ := fun _ => (fun _ => 0, 0, fun _ => (0, 0, 0))
theorem readT {w w' : tW} {v : Int} (hR : readQ w v w') (h5 : 0 ≤ w 5 0 ∧ w 5 0 ≤ 80) (h4 : ∀ i : Nat, i < 80 → 0 ≤ w 4 i ∧ w 4 i ≤ 65535) (h34 : -1 ≤ w 34 0 ∧ w 34 0 ≤ 1000) (hA : WfA (w 0)) (hO : WfO (w 0)) : match rdA (w 4) (w 5 0).toNat 20 0 J00 0 with
    | .inr e => v = 0 ∧ w' 3 0 = 1 ∧ w' 7 0 = 2 ∧ w' 6 0 = 2 ∧ w' 6 1 = 100 + e ∧ rdFr w w'
    | .inl x => match crA x.2 x.1 0 (w 0) with
      | .inl s => v = x.1 ∧ w' 3 0 = 0 ∧ w' 0 = s ∧ w' 6 = w 6 ∧ w' 7 = w 7 ∧ rdFr w w'
      | .inr y => v = 0 ∧ w' 3 0 = 2 ∧ w' 7 0 = (if y.2.1 = 3 then 4 else 3) ∧ w' 6 0 = 3 ∧ w' 6 1 = 100 + y.1 ∧ w' 6 2 = y.2.1 ∧ w' 6 3 = 100 + y.2.2 ∧ rdFr w w' := by
  obtain ⟨f, W, jobs, S, hs, hc⟩ := hR
  have hJ0 : rdJ (rd0 w) := ⟨⟨h5, by show 0 ≤ (0 : Int) ∧ (0 : Int) ≤ w 5 0; omega, by show -1 ≤ (-1 : Int) ∧ (-1 : Int) ≤ 80; omega, h4⟩, hA, hO, by show -1 ≤ (-1 : Int) ∧ (-1 : Int) ≤ 1000; omega, h34⟩
  have T := jsT (t := w 4) (n := (w 5 0).toNat) (by omega) f 20 0 J00 (rd0 w) W jobs hJ0 rfl (by show w 5 0 = _; omega) (by show (-1 : Int) < 0; decide) (by show 7 * (20 - ((20 : Nat) : Int)) ≤ (0 : Int); omega) (by show ((0 : Nat) : Int) ≤ (0 : Int); omega) hs
  rw [show rd0 w 30 0 = 0 from rfl] at T
  have eF : ∀ g, g ≠ 5 → g ≠ 31 → rdF W g = W g := fun g g1 g2 => by
    unfold rdF
    rw [tset_g g1]
    split
    · exact tset_g g2
    · rfl
  have eW : ∀ g, g ∉ [0, 30, 31, 32, 33, 34, 35, 36] → W g = w g := fun g hg => by
    rw [S.2.2.2.2 g (fun y => hg (by simp at y ⊢; omega))]
    unfold rd0
    rw [tset_g (fun e => hg (by rw [e]; decide)), tset_g (fun e => hg (by rw [e]; decide)), tset_g (fun e => hg (by rw [e]; decide)), wF_n (fun e => hg (by rw [e]; decide))]
  have fr : ∀ U : tW, (∀ g, g ≠ 0 → g ≠ 3 → g ≠ 6 → g ≠ 7 → U g = rdF W g) → rdFr w U := fun U hU => by
    refine ⟨?_, fun g hg => ?_⟩
    · rw [hU 5 (by decide) (by decide) (by decide) (by decide), tset_row, ← eW 5 (by decide)]
      unfold rdF
      rw [tset_row]
      split
      · rw [tset_g (by decide)]
      · rfl
    · rw [hU g (by omega) (by omega) (by omega) (by omega), eF g (by omega) (by omega), eW g (by simp; omega)]
  have fl : ∀ (k a b c d e : Int), (∀ g, g ≠ 0 → g ≠ 3 → g ≠ 6 → g ≠ 7 → wFail (rdB (tset (rdF W) 3 0 k)) a b c d e g = rdF W g) ∧ wFail (rdB (tset (rdF W) 3 0 k)) a b c d e 3 0 = k := fun k a b c d e => by
    refine ⟨fun g g0 g3 g6 g7 => ?_, ?_⟩
    · rw [wFail_f g6 g7]
      unfold rdB
      rw [wF_n g0, tset_g g3]
    · rw [wFail_f (by decide) (by decide)]
      unfold rdB
      rw [wF_n (by decide), tset_s]
  rcases hq : rdA (w 4) (w 5 0).toNat 20 0 J00 0 with x | e
  · rw [hq] at T
    obtain ⟨j1, j2, j3, j4, j5, j6⟩ := T
    have j6 := j6 rfl
    rw [Nat.sub_zero, show rd0 w 0 = w 0 from rfl] at j6
    dsimp only
    have e33 := congrFun (eF 33 (by decide) (by decide)) 0
    have e34 := congrFun (eF 34 (by decide) (by decide)) 0
    have e35 := congrFun (eF 35 (by decide) (by decide)) 0
    rcases hcr : crA x.2 x.1 0 (w 0) with s | y
    · rw [hcr] at j6
      dsimp only at j6
      dsimp only
      rcases hc with ⟨c1, c2, c3, rfl⟩ | ⟨c1, -⟩ | ⟨c1, c2, -⟩
      · refine ⟨by rw [c3]; exact j2, tset_s, ?_, ?_, ?_, fr _ (fun g g0 g3 g6 g7 => tset_g g3)⟩
        · rw [tset_g (by decide), eF 0 (by decide) (by decide)]; exact j6.2
        · rw [tset_g (by decide), eF 6 (by decide) (by decide), eW 6 (by decide)]
        · rw [tset_g (by decide), eF 7 (by decide) (by decide), eW 7 (by decide)]
      · omega
      · rw [e33] at c2; exact absurd j6.1 c2
    · rw [hcr] at j6
      dsimp only at j6
      dsimp only
      rcases hc with ⟨c1, c2, c3, rfl⟩ | ⟨c1, -⟩ | ⟨c1, c2, c3, rfl⟩
      · rw [e33, j6.1] at c2; omega
      · omega
      · rw [e33, e34, e35, j6.1, j6.2.1, j6.2.2]
        obtain ⟨a1, a2, a3, a4, a5⟩ := wFail_67 (w := rdB (tset (rdF W) 3 0 2)) (n := if y.2.1 = 3 then 4 else 3) (a := 3) (b := 100 + (y.1 : Int)) (c := y.2.1) (e := 100 + y.2.2)
        exact ⟨c3, (fl 2 _ _ _ _ _).2, a1, a2, a3, a4, a5, fr _ (fl 2 _ _ _ _ _).1⟩
  · rw [hq] at T
    obtain ⟨e0, T⟩ : 0 ≤ e ∧ rdF W 31 0 = e := T
    dsimp only
    rcases hc with ⟨c1, -⟩ | ⟨c1, c3, rfl⟩ | ⟨c1, -⟩
    · omega
    · rw [T]
      obtain ⟨a1, a2, a3, -⟩ := wFail_67 (w := rdB (tset (rdF W) 3 0 1)) (n := 2) (a := 2) (b := 100 + e) (c := 0) (e := 0)
      exact ⟨c3, (fl 1 _ _ _ _ _).2, a1, a2, a3, fr _ (fl 1 _ _ _ _ _).1⟩
    · omega
end RTj
