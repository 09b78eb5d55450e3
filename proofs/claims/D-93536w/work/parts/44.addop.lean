/-! ===== the row with a new operation at the end of job j and of machine m ===== -/
def sNO (s : Nat → Int) (j m u f : Int) : Nat → Int := fun i => if i = 1 then s 1 + 1 else if i = (179 + m).toNat then sOn s m + 1 else if i = (183 + 5 * m + sOn s m).toNat then s 1 else if i = (17 + j).toNat then sLen s j + 1 else if i = (22 + 4 * j + sLen s j).toNat then s 1 else if i = (122 + s 1).toNat then sLen s j else if i = (102 + s 1).toNat then f else if i = (82 + s 1).toNat then u else if i = (62 + s 1).toNat then m else if i = (42 + s 1).toNat then j else s i
theorem wOp_0 {w : tW} {j m u f : Int} : wOp w j m u f 0 = sNO (w 0) j m u f := by
  unfold wOp
  rw [tset_row, tset_row, tset_row, tset_row, tset_row, tset_row, tset_row, tset_row, tset_row, tset_row]
  rfl
theorem wOp_f {w : tW} {j m u f : Int} {g : Nat} (h : g ≠ 0) : wOp w j m u f g = w g := by
  unfold wOp
  rw [tset_g h, tset_g h, tset_g h, tset_g h, tset_g h, tset_g h, tset_g h, tset_g h, tset_g h, tset_g h]
/-- the job has no operation on m yet -/
def noM (s : Nat → Int) (j m : Int) : Prop := ∀ i : Int, 0 ≤ i → i < sLen s j → sMc s (sSeq s j i) ≠ m
theorem noM.k {s : Nat → Int} (hA : WfA s) {j m : Int} (h : noM s j m) {k : Int} (k0 : 0 ≤ k) (k1 : k < s 1) (hj : sJb s k = j) : sMc s k ≠ m := by
  obtain ⟨a1, a2, a3, a4, a5, a6⟩ := hA.2.1.2 k k0 k1
  rw [hj] at a5 a6
  have := h _ a5.1 a5.2
  rw [a6] at this
  exact this
theorem room_op {s : Nat → Int} (hA : WfA s) {j : Int} (hj : 0 ≤ j ∧ j < s 0) (hL : sLen s j < 4) : s 1 < 20 := by
  have h20 := hA.2.1.1
  have h05 := hA.1.1
  have l0 := (hA.1.2 j hj.1 hj.2).2.2.2
  have := pig 20 ((s 1).toNat + 1) (fun k => if (k : Int) = s 1 then 4 * j + sLen s j else 4 * sJb s k + sIx s k) (fun k hk => by
    try dsimp only
    split
    · omega
    · obtain ⟨a1, a2, a3, a4, a5, a6⟩ := hA.2.1.2 k (by omega) (by omega)
      have := (hA.1.2 _ a1.1 a1.2).2.2.2
      omega) (fun k l hk hl e => by
    have one : ∀ k : Nat, (k : Int) < s 1 → 4 * sJb s k + sIx s k ≠ 4 * j + sLen s j := fun k hk e => by
      obtain ⟨a1, a2, a3, a4, a5, a6⟩ := hA.2.1.2 k (by omega) hk
      have z := (hA.1.2 _ a1.1 a1.2).2.2.2
      have : sJb s k = j := by omega
      rw [this] at a5
      omega
    try dsimp only at e
    split at e <;> split at e
    · omega
    · exact absurd e.symm (one l (by omega))
    · exact absurd e (one k (by omega))
    · obtain ⟨a1, a2, a3, a4, a5, a6⟩ := hA.2.1.2 k (by omega) (by omega)
      obtain ⟨b1, b2, b3, b4, b5, b6⟩ := hA.2.1.2 l (by omega) (by omega)
      have z1 := (hA.1.2 _ a1.1 a1.2).2.2.2
      have z2 := (hA.1.2 _ b1.1 b1.2).2.2.2
      have e1 : sJb s k = sJb s l := by omega
      have e2 : sIx s k = sIx s l := by omega
      rw [e1, e2, b6] at a6
      omega)
  omega
theorem room_on {s : Nat → Int} (hA : WfA s) (hO : WfO s) {j m : Int} (hj : 0 ≤ j ∧ j < s 0) (hm : 0 ≤ m ∧ m ≤ 3) (hN : noM s j m) : sOn s m < 5 := by
  have h05 := hA.1.1
  obtain ⟨o1, o2, o3, o4⟩ := hO m hm.1 hm.2
  have := pig 5 ((sOn s m).toNat + 1) (fun i => if (i : Int) = sOn s m then j else sJb s (sOr s m i)) (fun i hi => by
    try dsimp only
    split
    · omega
    · obtain ⟨b1, -⟩ := o2 i (by omega) (by omega)
      have := (hA.2.1.2 _ b1.1 b1.2).1
      omega) (fun a b ha hb e => by
    have one : ∀ p : Nat, (p : Int) < sOn s m → sJb s (sOr s m p) ≠ j := fun p hp e => by
      obtain ⟨b1, b2⟩ := o2 p (by omega) hp
      exact hN.k hA b1.1 b1.2 e b2
    try dsimp only at e
    split at e <;> split at e
    · omega
    · exact absurd e.symm (one b (by omega))
    · exact absurd e (one a (by omega))
    · obtain ⟨b1, b2⟩ := o2 a (by omega) (by omega)
      obtain ⟨c1, c2⟩ := o2 b (by omega) (by omega)
      have := o3 a b (by omega) (by omega) (by omega) (by omega) (hA.2.2.2.1 _ _ b1.1 b1.2 c1.1 c1.2 e (by rw [b2, c2]))
      omega)
  omega
def nop (s : Nat → Int) (j m : Int) : Prop := (0 ≤ s 1 ∧ s 1 < 20) ∧ (0 ≤ j ∧ j < 5) ∧ (0 ≤ m ∧ m ≤ 3) ∧ (0 ≤ sLen s j ∧ sLen s j < 4) ∧ (0 ≤ sOn s m ∧ sOn s m < 5)
theorem sNO_n {s : Nat → Int} {j m u f : Int} {i : Nat} (h : i ≠ 1 ∧ i ≠ (179 + m).toNat ∧ i ≠ (183 + 5 * m + sOn s m).toNat ∧ i ≠ (17 + j).toNat ∧ i ≠ (22 + 4 * j + sLen s j).toNat ∧ i ≠ (122 + s 1).toNat ∧ i ≠ (102 + s 1).toNat ∧ i ≠ (82 + s 1).toNat ∧ i ≠ (62 + s 1).toNat ∧ i ≠ (42 + s 1).toNat) : sNO s j m u f i = s i := by
  obtain ⟨q1, q2, q3, q4, q5, q6, q7, q8, q9, q10⟩ := h
  unfold sNO
  rw [if_neg q1, if_neg q2, if_neg q3, if_neg q4, if_neg q5, if_neg q6, if_neg q7, if_neg q8, if_neg q9, if_neg q10]
theorem sNO_n1 {s : Nat → Int} {j m u f : Int} (h : nop s j m) : sOn (sNO s j m u f) m = sOn s m + 1 := by
  obtain ⟨h1, h2, h3, h4, h5⟩ := h
  show sNO s j m u f _ = _
  unfold sNO
  rw [if_neg (by omega), if_pos rfl]
theorem sNO_r1 {s : Nat → Int} {j m u f : Int} (h : nop s j m) : sOr (sNO s j m u f) m (sOn s m) = s 1 := by
  obtain ⟨h1, h2, h3, h4, h5⟩ := h
  show sNO s j m u f _ = _
  unfold sNO
  rw [if_neg (by omega), if_neg (by omega), if_pos rfl]
theorem sNO_l1 {s : Nat → Int} {j m u f : Int} (h : nop s j m) : sLen (sNO s j m u f) j = sLen s j + 1 := by
  obtain ⟨h1, h2, h3, h4, h5⟩ := h
  show sNO s j m u f _ = _
  unfold sNO
  rw [if_neg (by omega), if_neg (by omega), if_neg (by omega), if_pos rfl]
theorem sNO_q1 {s : Nat → Int} {j m u f : Int} (h : nop s j m) : sSeq (sNO s j m u f) j (sLen s j) = s 1 := by
  obtain ⟨h1, h2, h3, h4, h5⟩ := h
  show sNO s j m u f _ = _
  unfold sNO
  rw [if_neg (by omega), if_neg (by omega), if_neg (by omega), if_neg (by omega), if_pos rfl]
theorem sNO_x1 {s : Nat → Int} {j m u f : Int} (h : nop s j m) : sIx (sNO s j m u f) (s 1) = sLen s j := by
  obtain ⟨h1, h2, h3, h4, h5⟩ := h
  show sNO s j m u f _ = _
  unfold sNO
  rw [if_neg (by omega), if_neg (by omega), if_neg (by omega), if_neg (by omega), if_neg (by omega), if_pos rfl]
theorem sNO_f1 {s : Nat → Int} {j m u f : Int} (h : nop s j m) : sFa (sNO s j m u f) (s 1) = f := by
  obtain ⟨h1, h2, h3, h4, h5⟩ := h
  show sNO s j m u f _ = _
  unfold sNO
  rw [if_neg (by omega), if_neg (by omega), if_neg (by omega), if_neg (by omega), if_neg (by omega), if_neg (by omega), if_pos rfl]
theorem sNO_u1 {s : Nat → Int} {j m u f : Int} (h : nop s j m) : sDu (sNO s j m u f) (s 1) = u := by
  obtain ⟨h1, h2, h3, h4, h5⟩ := h
  show sNO s j m u f _ = _
  unfold sNO
  rw [if_neg (by omega), if_neg (by omega), if_neg (by omega), if_neg (by omega), if_neg (by omega), if_neg (by omega), if_neg (by omega), if_pos rfl]
theorem sNO_m1 {s : Nat → Int} {j m u f : Int} (h : nop s j m) : sMc (sNO s j m u f) (s 1) = m := by
  obtain ⟨h1, h2, h3, h4, h5⟩ := h
  show sNO s j m u f _ = _
  unfold sNO
  rw [if_neg (by omega), if_neg (by omega), if_neg (by omega), if_neg (by omega), if_neg (by omega), if_neg (by omega), if_neg (by omega), if_neg (by omega), if_pos rfl]
theorem sNO_j1 {s : Nat → Int} {j m u f : Int} (h : nop s j m) : sJb (sNO s j m u f) (s 1) = j := by
  obtain ⟨h1, h2, h3, h4, h5⟩ := h
  show sNO s j m u f _ = _
  unfold sNO
  rw [if_neg (by omega), if_neg (by omega), if_neg (by omega), if_neg (by omega), if_neg (by omega), if_neg (by omega), if_neg (by omega), if_neg (by omega), if_neg (by omega), if_pos rfl]
theorem sNO_jb {s : Nat → Int} {j m u f : Int} (h : nop s j m) : ∀ k : Int, 0 ≤ k → k < s 1 → sJb (sNO s j m u f) k = sJb s k := fun k k0 k1 => by
  obtain ⟨h1, h2, h3, h4, h5⟩ := h
  exact sNO_n (by omega)
theorem sNO_mc {s : Nat → Int} {j m u f : Int} (h : nop s j m) : ∀ k : Int, 0 ≤ k → k < s 1 → sMc (sNO s j m u f) k = sMc s k := fun k k0 k1 => by
  obtain ⟨h1, h2, h3, h4, h5⟩ := h
  exact sNO_n (by omega)
theorem sNO_du {s : Nat → Int} {j m u f : Int} (h : nop s j m) : ∀ k : Int, 0 ≤ k → k < s 1 → sDu (sNO s j m u f) k = sDu s k := fun k k0 k1 => by
  obtain ⟨h1, h2, h3, h4, h5⟩ := h
  exact sNO_n (by omega)
theorem sNO_fa {s : Nat → Int} {j m u f : Int} (h : nop s j m) : ∀ k : Int, 0 ≤ k → k < s 1 → sFa (sNO s j m u f) k = sFa s k := fun k k0 k1 => by
  obtain ⟨h1, h2, h3, h4, h5⟩ := h
  exact sNO_n (by omega)
theorem sNO_ix {s : Nat → Int} {j m u f : Int} (h : nop s j m) : ∀ k : Int, 0 ≤ k → k < s 1 → sIx (sNO s j m u f) k = sIx s k := fun k k0 k1 => by
  obtain ⟨h1, h2, h3, h4, h5⟩ := h
  exact sNO_n (by omega)
theorem sNO_rel {s : Nat → Int} {j m u f : Int} (h : nop s j m) : ∀ k : Int, 0 ≤ k → k < 5 → sRel (sNO s j m u f) k = sRel s k := fun k k0 k1 => by
  obtain ⟨h1, h2, h3, h4, h5⟩ := h
  exact sNO_n (by omega)
theorem sNO_due {s : Nat → Int} {j m u f : Int} (h : nop s j m) : ∀ k : Int, 0 ≤ k → k < 5 → sDue (sNO s j m u f) k = sDue s k := fun k k0 k1 => by
  obtain ⟨h1, h2, h3, h4, h5⟩ := h
  exact sNO_n (by omega)
theorem sNO_wt {s : Nat → Int} {j m u f : Int} (h : nop s j m) : ∀ k : Int, 0 ≤ k → k < 5 → sWt (sNO s j m u f) k = sWt s k := fun k k0 k1 => by
  obtain ⟨h1, h2, h3, h4, h5⟩ := h
  exact sNO_n (by omega)
theorem sNO_ln {s : Nat → Int} {j m u f : Int} (h : nop s j m) : ∀ k : Int, 0 ≤ k → k < 5 → k ≠ j → sLen (sNO s j m u f) k = sLen s k := fun k k0 k1 kj => by
  obtain ⟨h1, h2, h3, h4, h5⟩ := h
  exact sNO_n (by omega)
theorem sNO_sq {s : Nat → Int} {j m u f : Int} (h : nop s j m) : ∀ z i : Int, 0 ≤ z → z < 5 → 0 ≤ i → i < 4 → 4 * z + i ≠ 4 * j + sLen s j → sSeq (sNO s j m u f) z i = sSeq s z i := fun z i z0 z1 i0 i1 e => by
  obtain ⟨h1, h2, h3, h4, h5⟩ := h
  exact sNO_n (by omega)
theorem sNO_on {s : Nat → Int} {j m u f : Int} (h : nop s j m) : ∀ z : Int, 0 ≤ z → z ≤ 3 → z ≠ m → sOn (sNO s j m u f) z = sOn s z := fun z z0 z1 e => by
  obtain ⟨h1, h2, h3, h4, h5⟩ := h
  exact sNO_n (by omega)
theorem sNO_or {s : Nat → Int} {j m u f : Int} (h : nop s j m) : ∀ z p : Int, 0 ≤ z → z ≤ 3 → 0 ≤ p → p < 5 → 5 * z + p ≠ 5 * m + sOn s m → sOr (sNO s j m u f) z p = sOr s z p := fun z p z0 z1 p0 p1 e => by
  obtain ⟨h1, h2, h3, h4, h5⟩ := h
  exact sNO_n (by omega)
theorem sNO_c {s : Nat → Int} {j m u f : Int} (h : nop s j m) : ∀ c : Int, 142 ≤ c → c < 179 → (sNO s j m u f) c.toNat = s c.toNat := fun c c0 c1 => by
  obtain ⟨h1, h2, h3, h4, h5⟩ := h
  exact sNO_n (by omega)
theorem sNO_A {s : Nat → Int} (hA : WfA s) (hO : WfO s) {j m u f : Int} (hj : 0 ≤ j ∧ j < s 0) (hm : 0 ≤ m ∧ m ≤ 3) (hu : 1 ≤ u ∧ u ≤ 30) (hf : 0 ≤ f ∧ f ≤ 2) (hL : sLen s j < 4) (hN : noM s j m) : WfA (sNO s j m u f) := by
  have h20 := hA.2.1.1
  have h05 := hA.1.1
  have hk := room_op hA hj hL
  have hn := room_on hA hO hj hm hN
  have l0 := (hA.1.2 j hj.1 hj.2).2.2.2
  have on := (hO m hm.1 hm.2).1
  have hp : nop s j m := ⟨by omega, by omega, hm, by omega, by omega⟩
  have t1 : sNO s j m u f 1 = s 1 + 1 := if_pos rfl
  have t0 : sNO s j m u f 0 = s 0 := sNO_n (by omega)
  have tj := sNO_j1 (u := u) (f := f) hp
  have tm := sNO_m1 (u := u) (f := f) hp
  have tu := sNO_u1 (u := u) (f := f) hp
  have tf := sNO_f1 (u := u) (f := f) hp
  have tx := sNO_x1 (u := u) (f := f) hp
  have tq := sNO_q1 (u := u) (f := f) hp
  have tl := sNO_l1 (u := u) (f := f) hp
  have tr := sNO_r1 (u := u) (f := f) hp
  have tn := sNO_n1 (u := u) (f := f) hp
  have jb := sNO_jb (u := u) (f := f) hp
  have mc := sNO_mc (u := u) (f := f) hp
  have du := sNO_du (u := u) (f := f) hp
  have fa := sNO_fa (u := u) (f := f) hp
  have ix := sNO_ix (u := u) (f := f) hp
  have e1r := sNO_rel (u := u) (f := f) hp
  have e2r := sNO_due (u := u) (f := f) hp
  have e3r := sNO_wt (u := u) (f := f) hp
  have cc := sNO_c (u := u) (f := f) hp
  have ln : ∀ z : Int, 0 ≤ z → z < s 0 → z ≠ j → sLen (sNO s j m u f) z = sLen s z := fun z z0 z1 zj => sNO_ln hp z z0 (by omega) zj
  have sq : ∀ z i : Int, 0 ≤ z → z < s 0 → 0 ≤ i → i < sLen s z → sSeq (sNO s j m u f) z i = sSeq s z i := fun z i z0 z1 i0 i1 => by
    have := (hA.1.2 z z0 z1).2.2.2
    exact sNO_sq hp z i z0 (by omega) i0 (by omega) (fun e => by
      have : z = j := by omega
      rw [this] at i1
      omega)
  have onn := sNO_on (u := u) (f := f) hp
  have orr : ∀ z p : Int, 0 ≤ z → z ≤ 3 → 0 ≤ p → p < sOn s z → sOr (sNO s j m u f) z p = sOr s z p := fun z p z0 z1 p0 p1 => by
    have := (hO z z0 z1).1
    exact sNO_or hp z p z0 z1 p0 (by omega) (fun e => by
      have : z = m := by omega
      rw [this] at p1
      omega)
  generalize sNO s j m u f = t at *
  have lg : ∀ z : Int, 0 ≤ z → z < s 0 → sLen s z ≤ sLen t z ∧ sLen t z ≤ 4 := fun z z0 z1 => by
    have := (hA.1.2 z z0 z1).2.2.2
    by_cases q : z = j
    · rw [q, tl]; rw [q] at this; omega
    · rw [ln z z0 z1 q]; omega
  have cs : ∀ k : Int, 0 ≤ k → k < t 1 → (k < s 1) ∨ k = s 1 := fun k k0 k1 => by omega
  refine ⟨⟨by rw [t0]; exact h05, fun z z0 z1 => ?_⟩, ⟨by rw [t1]; omega, fun k k0 k1 => ?_⟩, fun z i z0 z1 i0 i1 => ?_, fun k l k0 k1 l0 l1 h1 h2 => ?_, fun c c0 c1 => ?_, fun z z0 z1 => ?_⟩
  · rw [t0] at z1
    obtain ⟨a1, a2, a3, a4⟩ := hA.1.2 z z0 z1
    have e1 : sRel t z = sRel s z := e1r z z0 (by omega)
    have e2 : sDue t z = sDue s z := e2r z z0 (by omega)
    have e3 : sWt t z = sWt s z := e3r z z0 (by omega)
    have := lg z z0 z1
    rw [e1, e2, e3]
    exact ⟨a1, a2, a3, by omega⟩
  · rcases cs k k0 k1 with q | q
    · obtain ⟨a1, a2, a3, a4, a5, a6⟩ := hA.2.1.2 k k0 q
      rw [jb k k0 q, mc k k0 q, du k k0 q, fa k k0 q, ix k k0 q, t0, sq _ _ a1.1 a1.2 a5.1 a5.2]
      have := lg _ a1.1 a1.2
      exact ⟨a1, a2, a3, a4, ⟨a5.1, by omega⟩, a6⟩
    · subst q
      rw [tj, tm, tu, tf, tx, t0, tl, tq]
      exact ⟨hj, hm, hu, hf, by omega, rfl⟩
  · rw [t0] at z1
    by_cases q : z = j ∧ i = sLen s j
    · obtain ⟨rfl, rfl⟩ := q
      rw [tq, t1, tj, tx]
      exact ⟨by omega, rfl, rfl⟩
    · have i2 : i < sLen s z := by
        by_cases y : z = j
        · rw [y, tl] at i1; rw [y]; omega
        · rw [ln z z0 z1 y] at i1; exact i1
      obtain ⟨a1, a2, a3⟩ := hA.2.2.1 z i z0 z1 i0 i2
      rw [sq z i z0 z1 i0 i2, t1, jb _ a1.1 a1.2, ix _ a1.1 a1.2]
      exact ⟨⟨a1.1, by omega⟩, a2, a3⟩
  · rcases cs k k0 k1 with q | q <;> rcases cs l l0 l1 with r | r
    · rw [jb k k0 q, jb l l0 r] at h1
      rw [mc k k0 q, mc l l0 r] at h2
      exact hA.2.2.2.1 k l k0 q l0 r h1 h2
    · rw [r, jb k k0 q, tj] at h1
      rw [r, mc k k0 q, tm] at h2
      exact absurd h2 (hN.k hA k0 q h1)
    · rw [q, jb l l0 r, tj] at h1
      rw [q, mc l l0 r, tm] at h2
      exact absurd h2.symm (hN.k hA l0 r h1.symm)
    · omega
  · rw [cc _ (by omega) (by omega)]
    exact hA.2.2.2.2.1 c c0 c1
  · obtain ⟨b1, b2⟩ := hA.2.2.2.2.2 z z0 z1
    have e1 : sBn t z = sBn s z := cc _ (by omega) (by omega)
    rw [e1]
    refine ⟨b1, fun i i0 i1 => ?_⟩
    have e2 : sBf t z i = sBf s z i := cc _ (by omega) (by omega)
    have e3 : sBl t z i = sBl s z i := cc _ (by omega) (by omega)
    rw [e2, e3]
    exact b2 i i0 i1
theorem sNO_O {s : Nat → Int} (hA : WfA s) (hO : WfO s) {j m u f : Int} (hj : 0 ≤ j ∧ j < s 0) (hm : 0 ≤ m ∧ m ≤ 3) (hu : 1 ≤ u ∧ u ≤ 30) (hf : 0 ≤ f ∧ f ≤ 2) (hL : sLen s j < 4) (hN : noM s j m) : WfO (sNO s j m u f) := by
  have h20 := hA.2.1.1
  have h05 := hA.1.1
  have hk := room_op hA hj hL
  have hn := room_on hA hO hj hm hN
  have l0 := (hA.1.2 j hj.1 hj.2).2.2.2
  have on := (hO m hm.1 hm.2).1
  have hp : nop s j m := ⟨by omega, by omega, hm, by omega, by omega⟩
  have t1 : sNO s j m u f 1 = s 1 + 1 := if_pos rfl
  have t0 : sNO s j m u f 0 = s 0 := sNO_n (by omega)
  have tj := sNO_j1 (u := u) (f := f) hp
  have tm := sNO_m1 (u := u) (f := f) hp
  have tu := sNO_u1 (u := u) (f := f) hp
  have tf := sNO_f1 (u := u) (f := f) hp
  have tx := sNO_x1 (u := u) (f := f) hp
  have tq := sNO_q1 (u := u) (f := f) hp
  have tl := sNO_l1 (u := u) (f := f) hp
  have tr := sNO_r1 (u := u) (f := f) hp
  have tn := sNO_n1 (u := u) (f := f) hp
  have jb := sNO_jb (u := u) (f := f) hp
  have mc := sNO_mc (u := u) (f := f) hp
  have du := sNO_du (u := u) (f := f) hp
  have fa := sNO_fa (u := u) (f := f) hp
  have ix := sNO_ix (u := u) (f := f) hp
  have e1r := sNO_rel (u := u) (f := f) hp
  have e2r := sNO_due (u := u) (f := f) hp
  have e3r := sNO_wt (u := u) (f := f) hp
  have cc := sNO_c (u := u) (f := f) hp
  have ln : ∀ z : Int, 0 ≤ z → z < s 0 → z ≠ j → sLen (sNO s j m u f) z = sLen s z := fun z z0 z1 zj => sNO_ln hp z z0 (by omega) zj
  have sq : ∀ z i : Int, 0 ≤ z → z < s 0 → 0 ≤ i → i < sLen s z → sSeq (sNO s j m u f) z i = sSeq s z i := fun z i z0 z1 i0 i1 => by
    have := (hA.1.2 z z0 z1).2.2.2
    exact sNO_sq hp z i z0 (by omega) i0 (by omega) (fun e => by
      have : z = j := by omega
      rw [this] at i1
      omega)
  have onn := sNO_on (u := u) (f := f) hp
  have orr : ∀ z p : Int, 0 ≤ z → z ≤ 3 → 0 ≤ p → p < sOn s z → sOr (sNO s j m u f) z p = sOr s z p := fun z p z0 z1 p0 p1 => by
    have := (hO z z0 z1).1
    exact sNO_or hp z p z0 z1 p0 (by omega) (fun e => by
      have : z = m := by omega
      rw [this] at p1
      omega)
  generalize sNO s j m u f = t at *
  have lg : ∀ z : Int, 0 ≤ z → z < s 0 → sLen s z ≤ sLen t z ∧ sLen t z ≤ 4 := fun z z0 z1 => by
    have := (hA.1.2 z z0 z1).2.2.2
    by_cases q : z = j
    · rw [q, tl]; rw [q] at this; omega
    · rw [ln z z0 z1 q]; omega
  have cs : ∀ k : Int, 0 ≤ k → k < t 1 → (k < s 1) ∨ k = s 1 := fun k k0 k1 => by omega
  intro z z0 z1
  obtain ⟨o1, o2, o3, o4⟩ := hO z z0 z1
  rw [t1]
  by_cases q : z = m
  · subst q
    rw [tn]
    have cp : ∀ p : Int, 0 ≤ p → p < sOn s z + 1 → (p < sOn s z ∧ sOr t z p = sOr s z p) ∨ (p = sOn s z ∧ sOr t z p = s 1) := fun p p0 p1 => by
      rcases (by omega : p < sOn s z ∨ p = sOn s z) with y | y
      · exact Or.inl ⟨y, orr z p z0 z1 p0 y⟩
      · exact Or.inr ⟨y, by rw [y]; exact tr⟩
    refine ⟨by omega, fun p p0 p1 => ?_, fun a b a0 a1 b0 b1 hab => ?_, fun k k0 k1 hk9 => ?_⟩
    · rcases cp p p0 p1 with ⟨y, e⟩ | ⟨y, e⟩
      · obtain ⟨d1, d2⟩ := o2 p p0 y
        rw [e, mc _ d1.1 d1.2]
        exact ⟨⟨d1.1, by omega⟩, d2⟩
      · rw [e, tm]
        exact ⟨by omega, rfl⟩
    · rcases cp a a0 a1 with ⟨y, e⟩ | ⟨y, e⟩ <;> rcases cp b b0 b1 with ⟨y', e'⟩ | ⟨y', e'⟩ <;> rw [e, e'] at hab
      · exact o3 a b a0 y b0 y' hab
      · have := (o2 a a0 y).1.2; omega
      · have := (o2 b b0 y').1.2; omega
      · omega
    · rcases (by omega : k < s 1 ∨ k = s 1) with y | y
      · rw [mc k k0 y] at hk9
        obtain ⟨p, p0, p1, p2⟩ := o4 k k0 y hk9
        exact ⟨p, p0, by omega, by rw [orr z p z0 z1 p0 p1]; exact p2⟩
      · exact ⟨sOn s z, by omega, by omega, by rw [tr, y]⟩
  · rw [onn z z0 z1 q]
    refine ⟨o1, fun p p0 p1 => ?_, fun a b a0 a1 b0 b1 hab => ?_, fun k k0 k1 hk9 => ?_⟩
    · obtain ⟨d1, d2⟩ := o2 p p0 p1
      rw [orr z p z0 z1 p0 p1, mc _ d1.1 d1.2]
      exact ⟨⟨d1.1, by omega⟩, d2⟩
    · rw [orr z a z0 z1 a0 a1, orr z b z0 z1 b0 b1] at hab
      exact o3 a b a0 a1 b0 b1 hab
    · rcases (by omega : k < s 1 ∨ k = s 1) with y | y
      · rw [mc k k0 y] at hk9
        obtain ⟨p, p0, p1, p2⟩ := o4 k k0 y hk9
        exact ⟨p, p0, p1, by rw [orr z p z0 z1 p0 p1]; exact p2⟩
      · rw [y, tm] at hk9
        exact absurd hk9.symm q
theorem sNO_C {s : Nat → Int} (hA : WfA s) (hO : WfO s) {j m u f : Int} (hj : 0 ≤ j ∧ j < s 0) (hm : 0 ≤ m ∧ m ≤ 3) (hu : 1 ≤ u ∧ u ≤ 30) (hf : 0 ≤ f ∧ f ≤ 2) (hL : sLen s j < 4) (hN : noM s j m) {o : Nat → Int} (ha : ACy s o) : ACy (sNO s j m u f) o := by
  obtain ⟨r, hr⟩ := ha
  have h20 := hA.2.1.1
  have h05 := hA.1.1
  have hk := room_op hA hj hL
  have hn := room_on hA hO hj hm hN
  have l0 := (hA.1.2 j hj.1 hj.2).2.2.2
  have on := (hO m hm.1 hm.2).1
  have hp : nop s j m := ⟨by omega, by omega, hm, by omega, by omega⟩
  have t1 : sNO s j m u f 1 = s 1 + 1 := if_pos rfl
  have t0 : sNO s j m u f 0 = s 0 := sNO_n (by omega)
  have tj := sNO_j1 (u := u) (f := f) hp
  have tm := sNO_m1 (u := u) (f := f) hp
  have tu := sNO_u1 (u := u) (f := f) hp
  have tf := sNO_f1 (u := u) (f := f) hp
  have tx := sNO_x1 (u := u) (f := f) hp
  have tq := sNO_q1 (u := u) (f := f) hp
  have tl := sNO_l1 (u := u) (f := f) hp
  have tr := sNO_r1 (u := u) (f := f) hp
  have tn := sNO_n1 (u := u) (f := f) hp
  have jb := sNO_jb (u := u) (f := f) hp
  have mc := sNO_mc (u := u) (f := f) hp
  have du := sNO_du (u := u) (f := f) hp
  have fa := sNO_fa (u := u) (f := f) hp
  have ix := sNO_ix (u := u) (f := f) hp
  have e1r := sNO_rel (u := u) (f := f) hp
  have e2r := sNO_due (u := u) (f := f) hp
  have e3r := sNO_wt (u := u) (f := f) hp
  have cc := sNO_c (u := u) (f := f) hp
  have ln : ∀ z : Int, 0 ≤ z → z < s 0 → z ≠ j → sLen (sNO s j m u f) z = sLen s z := fun z z0 z1 zj => sNO_ln hp z z0 (by omega) zj
  have sq : ∀ z i : Int, 0 ≤ z → z < s 0 → 0 ≤ i → i < sLen s z → sSeq (sNO s j m u f) z i = sSeq s z i := fun z i z0 z1 i0 i1 => by
    have := (hA.1.2 z z0 z1).2.2.2
    exact sNO_sq hp z i z0 (by omega) i0 (by omega) (fun e => by
      have : z = j := by omega
      rw [this] at i1
      omega)
  have onn := sNO_on (u := u) (f := f) hp
  have orr : ∀ z p : Int, 0 ≤ z → z ≤ 3 → 0 ≤ p → p < sOn s z → sOr (sNO s j m u f) z p = sOr s z p := fun z p z0 z1 p0 p1 => by
    have := (hO z z0 z1).1
    exact sNO_or hp z p z0 z1 p0 (by omega) (fun e => by
      have : z = m := by omega
      rw [this] at p1
      omega)
  generalize sNO s j m u f = t at *
  have lg : ∀ z : Int, 0 ≤ z → z < s 0 → sLen s z ≤ sLen t z ∧ sLen t z ≤ 4 := fun z z0 z1 => by
    have := (hA.1.2 z z0 z1).2.2.2
    by_cases q : z = j
    · rw [q, tl]; rw [q] at this; omega
    · rw [ln z z0 z1 q]; omega
  have cs : ∀ k : Int, 0 ≤ k → k < t 1 → (k < s 1) ∨ k = s 1 := fun k k0 k1 => by omega
  have rb : ∀ x : Int, 0 ≤ x → x < s 1 → 0 ≤ r x.toNat := fun x x0 x1 => (hr x x0 x1).1
  have ps : ∀ k : Int, 0 ≤ k → k < s 1 → sPos t k = sPos s k := fun k k0 k1 => by
    have a2 := (hA.2.1.2 k k0 k1).2.1
    have p := hO.pos ⟨k0, k1⟩ a2
    have o5 := (hO _ a2.1 a2.2).1
    refine isPos.eq ⟨p.1.1, ?_, fun q q0 q1 => ?_⟩
    · rw [mc k k0 k1, orr _ _ a2.1 a2.2 p.1.1.1 p.2]; exact p.1.2.1
    · rw [mc k k0 k1, orr _ _ a2.1 a2.2 q0 (by omega)]; exact p.1.2.2 q q0 q1
  have pn : sPos t (s 1) = sOn s m := isPos.eq ⟨by omega, by rw [tm]; exact tr, fun q q0 q1 => by
    rw [tm, orr m q hm.1 hm.2 q0 q1]
    have := ((hO m hm.1 hm.2).2.1 q q0 q1).1.2
    omega⟩
  refine ⟨sup r (s 1).toNat (1 + (if sLen s j = 0 then 0 else r (sSeq s j (sLen s j - 1)).toNat) + (if sOn s m = 0 then 0 else r (sOr s m (sOn s m - 1)).toNat)), fun k k0 k1 => ?_⟩
  have ra : 0 ≤ (if sLen s j = 0 then 0 else r (sSeq s j (sLen s j - 1)).toNat) := by
    split
    · omega
    · have := (hA.2.2.1 j (sLen s j - 1) hj.1 hj.2 (by omega) (by omega)).1
      exact rb _ this.1 this.2
  have rc : 0 ≤ (if sOn s m = 0 then 0 else r (sOr s m (sOn s m - 1)).toNat) := by
    split
    · omega
    · have := ((hO m hm.1 hm.2).2.1 (sOn s m - 1) (by omega) (by omega)).1
      exact rb _ this.1 this.2
  rcases cs k k0 k1 with q | q
  · obtain ⟨r0, r1, r2⟩ := hr k k0 q
    obtain ⟨a1, a2, a3, a4, a5, a6⟩ := hA.2.1.2 k k0 q
    have eb : sBef t k = sBef s k := by
      unfold sBef
      rw [ix k k0 q, jb k k0 q]
      split
      · rfl
      · exact sq _ _ a1.1 a1.2 (by omega) (by omega)
    have p := hO.pos ⟨k0, q⟩ a2
    have ea : sAh t o k = sAh s o k := by
      unfold sAh
      rw [mc k k0 q, ps k k0 q]
      split
      · rfl
      · split
        · rfl
        · exact orr _ _ a2.1 a2.2 (by have := p.1.1.1; omega) (by omega)
    rw [sup_n (by omega), eb, ea]
    refine ⟨r0, fun z => ?_, fun z => ?_⟩
    · have b := ((sBef_ok hA k0 q).resolve_left z).1
      rw [sup_n (by omega)]; exact r1 z
    · have b := ((sAh_ok (o := o) hA hO k0 q).resolve_left z).2.1
      rw [sup_n (by omega)]; exact r2 z
  · subst q
    rw [sup_s]
    refine ⟨by omega, fun z => ?_, fun z => ?_⟩
    · have eb : sBef t (s 1) = if sLen s j = 0 then -1 else sSeq s j (sLen s j - 1) := by
        unfold sBef
        rw [tx, tj]
        split
        · rfl
        · exact sq _ _ hj.1 hj.2 (by omega) (by omega)
      rw [eb] at z ⊢
      split at z
      · exact absurd rfl z
      · next y =>
        have b := (hA.2.2.1 j (sLen s j - 1) hj.1 hj.2 (by omega) (by omega)).1
        rw [if_neg y] at ra ⊢
        rw [if_neg y, sup_n (by omega)]
        omega
    · have ea : sAh t o (s 1) = if o m.toNat ≠ 0 then -1 else if sOn s m = 0 then -1 else sOr s m (sOn s m - 1) := by
        unfold sAh
        rw [tm, pn]
        split
        · rfl
        · split
          · rfl
          · exact orr _ _ hm.1 hm.2 (by omega) (by omega)
      rw [ea] at z ⊢
      split at z
      · exact absurd rfl z
      · next y1 =>
        split at z
        · exact absurd rfl z
        · next y =>
          have b := ((hO m hm.1 hm.2).2.1 (sOn s m - 1) (by omega) (by omega)).1
          rw [if_neg y1, if_neg y]
          rw [if_neg y] at rc ⊢
          rw [sup_n (by omega)]
          omega

