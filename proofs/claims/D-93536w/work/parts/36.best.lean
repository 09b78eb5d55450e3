/-! ===== the best order of one machine: least makespan, then least by numbers ===== -/
def EQ (n : Nat) (a b : Nat → Int) : Prop := ∀ j, j < n → a j = b j
def LT (n : Nat) (a b : Nat → Int) : Prop := ∃ i, i < n ∧ (∀ j, j < i → a j = b j) ∧ a i < b i
theorem EQ.symm {n : Nat} {a b : Nat → Int} (h : EQ n a b) : EQ n b a := fun j hj => (h j hj).symm
theorem EQ.trans {n : Nat} {a b c : Nat → Int} (h : EQ n a b) (g : EQ n b c) : EQ n a c := fun j hj => (h j hj).trans (g j hj)
theorem EQ_s {n : Nat} {a b : Nat → Int} : EQ (n + 1) a b ↔ EQ n a b ∧ a n = b n :=
  ⟨fun h => ⟨fun j hj => h j (by omega), h n (by omega)⟩, fun h j hj => by rcases (by omega : j < n ∨ j = n) with c | c; (exact h.1 j c); (rw [c]; exact h.2)⟩
theorem LT_s {n : Nat} {a b : Nat → Int} : LT (n + 1) a b ↔ LT n a b ∨ (EQ n a b ∧ a n < b n) := by
  constructor
  · rintro ⟨i, hi, h1, h2⟩
    rcases (by omega : i < n ∨ i = n) with c | c
    · exact Or.inl ⟨i, c, h1, h2⟩
    · subst c; exact Or.inr ⟨h1, h2⟩
  · rintro (⟨i, hi, h1, h2⟩ | ⟨h1, h2⟩)
    · exact ⟨i, by omega, h1, h2⟩
    · exact ⟨n, by omega, h1, h2⟩
theorem LT.r {n : Nat} {a b c : Nat → Int} (h : LT n a b) (g : EQ n b c) : LT n a c := by
  obtain ⟨i, hi, h1, h2⟩ := h
  exact ⟨i, hi, fun j hj => (h1 j hj).trans (g j (by omega)), by rw [← g i hi]; exact h2⟩
theorem LT.l {n : Nat} {a b c : Nat → Int} (h : LT n a b) (g : EQ n a c) : LT n c b := by
  obtain ⟨i, hi, h1, h2⟩ := h
  exact ⟨i, hi, fun j hj => (g j (by omega)).symm.trans (h1 j hj), by rw [← g i hi]; exact h2⟩
theorem LT.irr {n : Nat} {a b : Nat → Int} (h : LT n a b) (g : EQ n a b) : False := by
  obtain ⟨i, hi, h1, h2⟩ := h
  have := g i hi
  omega
theorem LT.asym {n : Nat} {a b : Nat → Int} (h : LT n a b) (g : LT n b a) : False := by
  obtain ⟨i, hi, h1, h2⟩ := h
  obtain ⟨j, hj, g1, g2⟩ := g
  rcases Nat.lt_trichotomy i j with c | c | c
  · have := g1 i c; omega
  · subst c; omega
  · have := h1 j c; omega
/-- the row with another order of machine m -/
def sPut (s : Nat → Int) (m n : Nat) (c : Nat → Int) : Nat → Int := fun i => if 183 + 5 * m ≤ i ∧ i < 183 + 5 * m + n then c (i - (183 + 5 * m)) else s i
theorem sPut_lo {s : Nat → Int} {m n : Nat} {c : Nat → Int} {i : Nat} (h : i < 183 + 5 * m ∨ 183 + 5 * m + n ≤ i) : sPut s m n c i = s i := if_neg (by omega)
theorem sPut_at {s : Nat → Int} {m n : Nat} {c : Nat → Int} {i : Nat} (h : i < n) : sPut s m n c (183 + 5 * m + i) = c i := by
  unfold sPut
  rw [if_pos (by omega), show 183 + 5 * m + i - (183 + 5 * m) = i by omega]
theorem sPut_e {s : Nat → Int} {m n : Nat} {c b : Nat → Int} (h : EQ n c b) : sPut s m n c = sPut s m n b := by
  funext i
  unfold sPut
  split
  · exact h _ (by omega)
  · rfl
theorem sPut_s {s : Nat → Int} {m n p : Nat} {c : Nat → Int} {v : Int} (h : p < n) : sup (sPut s m n c) (183 + 5 * m + p) v = sPut s m n (sup c p v) := by
  funext i
  unfold sup sPut
  by_cases q : i = 183 + 5 * m + p
  · rw [if_pos q, if_pos (by omega)]
    exact (if_pos (by omega)).symm
  · rw [if_neg q]
    split
    · exact (if_neg (by omega)).symm
    · rfl
theorem sPut_i {s : Nat → Int} {m n : Nat} : sPut s m n (fun i => s (183 + 5 * m + i)) = s := by
  funext i
  unfold sPut
  split
  · show s (183 + 5 * m + (i - (183 + 5 * m))) = s i
    rw [show 183 + 5 * m + (i - (183 + 5 * m)) = i by omega]
  · rfl
/-- the first p entries are different operations of m -/
def isPm (s : Nat → Int) (m p : Nat) (c : Nat → Int) : Prop := (∀ i, i < p → (0 ≤ c i ∧ c i < s 1) ∧ sMc s (c i) = m) ∧ ∀ i j, i < p → j < p → c i = c j → i = j
theorem isPm.e {s : Nat → Int} {m p : Nat} {c b : Nat → Int} (h : isPm s m p c) (g : EQ p c b) : isPm s m p b :=
  ⟨fun i hi => by rw [← g i hi]; exact h.1 i hi, fun i j hi hj e => h.2 i j hi hj (by rw [g i hi, g j hj]; exact e)⟩
theorem isPm.own {s : Nat → Int} (hO : WfO s) {m n : Nat} (hm : m ≤ 3) (hn : sOn s m = n) : isPm s m n (fun i => s (183 + 5 * m + i)) := by
  obtain ⟨o1, o2, o3, o4⟩ := hO m (by omega) (by omega)
  have e : ∀ i : Nat, sOr s m i = s (183 + 5 * m + i) := fun i => by show s _ = s _; rw [show (183 + 5 * (m : Int) + (i : Int)).toNat = 183 + 5 * m + i by omega]
  refine ⟨fun i hi => ?_, fun i j hi hj h => ?_⟩
  · try dsimp only
    rw [← e i]
    exact o2 i (by omega) (by omega)
  · try dsimp only at h
    rw [← e i, ← e j] at h
    have := o3 i j (by omega) (by omega) (by omega) (by omega) h
    omega
theorem sPut_W {s : Nat → Int} (hA : WfA s) (hO : WfO s) {m n : Nat} (hm : m ≤ 3) (hn : sOn s m = n) {c : Nat → Int} (hc : isPm s m n c) : WfA (sPut s m n c) ∧ WfO (sPut s m n c) := by
  have h20 := hA.2.1.1
  obtain ⟨o1, o2, o3, o4⟩ := hO m (by omega) (by omega)
  refine ⟨hA.congr fun i hi => sPut_lo (by omega), fun z z0 z1 => ?_⟩
  have e1 : sPut s m n c 1 = s 1 := sPut_lo (by omega)
  have mc : ∀ k : Int, 0 ≤ k → k < s 1 → sMc (sPut s m n c) k = sMc s k := fun k k0 k1 => sPut_lo (by omega)
  have on : sOn (sPut s m n c) z = sOn s z := sPut_lo (by omega)
  have inj : ∀ a b : Int, 0 ≤ a → a < s 1 → 0 ≤ b → b < s 1 → sMc s a = m → sMc s b = m → sPos s a = sPos s b → a = b := fun a b a0 a1 b0 b1 ha hb h => by
    have pa := (hO.pos ⟨a0, a1⟩ (by rw [ha]; omega)).1.2.1
    have pb := (hO.pos ⟨b0, b1⟩ (by rw [hb]; omega)).1.2.1
    rw [ha] at pa
    rw [hb, ← h, pa] at pb
    exact pb
  by_cases q : z = m
  · subst q
    have at' : ∀ p : Int, 0 ≤ p → p < n → sOr (sPut s m n c) m p = c p.toNat := fun p p0 p1 => by
      show sPut s m n c _ = _
      rw [show (183 + 5 * (m : Int) + p).toNat = 183 + 5 * m + p.toNat by omega]
      exact sPut_at (by omega)
    rw [on, hn, e1]
    refine ⟨by omega, fun p p0 p1 => ?_, fun a b a0 a1 b0 b1 hab => ?_, fun k k0 k1 hk => ?_⟩
    · obtain ⟨d1, d2⟩ := hc.1 p.toNat (by omega)
      rw [at' p p0 p1, mc _ d1.1 d1.2]
      exact ⟨d1, d2⟩
    · rw [at' a a0 a1, at' b b0 b1] at hab
      have := hc.2 _ _ (by omega) (by omega) hab
      omega
    · rw [mc k k0 k1] at hk
      by_cases z : ∃ i, i < n ∧ c i = k
      · obtain ⟨i, hi, e⟩ := z
        exact ⟨i, by omega, by omega, by rw [at' i (by omega) (by omega), Int.toNat_natCast, e]⟩
      · exfalso
        have hne : ∀ i, i < n → c i ≠ k := fun i hi e => z ⟨i, hi, e⟩
        have := pig n (n + 1) (fun i => if i = n then sPos s k else sPos s (c i)) (fun i hi => by
          try dsimp only
          split
          · have := hO.pos ⟨k0, k1⟩ (by rw [hk]; omega)
            have p2 := this.2
            rw [hk, hn] at p2
            exact ⟨this.1.1.1, p2⟩
          · obtain ⟨d1, d2⟩ := hc.1 i (by omega)
            have := hO.pos d1 (by rw [d2]; omega)
            have p2 := this.2
            rw [d2, hn] at p2
            exact ⟨this.1.1.1, p2⟩) (fun i j hi hj hij => by
          try dsimp only at hij
          split at hij <;> split at hij
          · omega
          · obtain ⟨d1, d2⟩ := hc.1 j (by omega)
            exact absurd (inj _ _ k0 k1 d1.1 d1.2 hk d2 hij).symm (hne j (by omega))
          · obtain ⟨d1, d2⟩ := hc.1 i (by omega)
            exact absurd (inj _ _ d1.1 d1.2 k0 k1 d2 hk hij) (hne i (by omega))
          · obtain ⟨d1, d2⟩ := hc.1 i (by omega)
            obtain ⟨f1, f2⟩ := hc.1 j (by omega)
            exact hc.2 i j (by omega) (by omega) (inj _ _ d1.1 d1.2 f1.1 f1.2 d2 f2 hij))
        omega
  · obtain ⟨h1, h2, h3, h4⟩ := hO z z0 z1
    have oo : ∀ p : Int, 0 ≤ p → p < sOn s z → sOr (sPut s m n c) z p = sOr s z p := fun p p0 p1 => sPut_lo (by omega)
    rw [on, e1]
    refine ⟨h1, fun p p0 p1 => ?_, fun a b a0 a1 b0 b1 hab => ?_, fun k k0 k1 hk => ?_⟩
    · rw [oo p p0 p1, mc _ (h2 p p0 p1).1.1 (h2 p p0 p1).1.2]
      exact h2 p p0 p1
    · rw [oo a a0 a1, oo b b0 b1] at hab
      exact h3 a b a0 a1 b0 b1 hab
    · rw [mc k k0 k1] at hk
      obtain ⟨p, p0, p1, p2⟩ := h4 k k0 k1 hk
      exact ⟨p, p0, p1, by rw [oo p p0 p1, p2]⟩
/-- v is the makespan of s (-1: a cycle) -/
def MkR (s o : Nat → Int) (v : Int) : Prop := ∃ rd st, Tp s o (-1) 0 rd st ∧ Tq s o st ∧ v = mkS s st
theorem MkR.uniq {s o : Nat → Int} {v u : Int} (hA : WfA s) (hO : WfO s) (h : MkR s o v) (g : MkR s o u) : v = u := by
  obtain ⟨rd, st, h1, h2, rfl⟩ := h
  obtain ⟨rd', st', g1, g2, rfl⟩ := g
  exact mkS_uniq hA hO h1 h2 g1 g2
/-- bm, bo: the best among the orders that V names -/
def bOf (s o : Nat → Int) (m n : Nat) (V : (Nat → Int) → Prop) (bm : Int) (bo : Nat → Int) : Prop := (bm = -1 ∧ ∀ c, isPm s m n c → V c → ∃ v, MkR (sPut s m n c) o v ∧ v < 0) ∨ (0 ≤ bm ∧ isPm s m n bo ∧ V bo ∧ MkR (sPut s m n bo) o bm ∧ ∀ c, isPm s m n c → V c → ∀ v, MkR (sPut s m n c) o v → 0 ≤ v → bm < v ∨ (bm = v ∧ (EQ n bo c ∨ LT n bo c)))
theorem bOf.c {s o : Nat → Int} {m n : Nat} {V V' : (Nat → Int) → Prop} {bm : Int} {bo : Nat → Int} (h : bOf s o m n V bm bo) (e : ∀ c, isPm s m n c → (V c ↔ V' c)) : bOf s o m n V' bm bo := by
  rcases h with ⟨h1, h2⟩ | ⟨h1, h2, h3, h4, h5⟩
  · exact Or.inl ⟨h1, fun c hc hv => h2 c hc ((e c hc).mpr hv)⟩
  · exact Or.inr ⟨h1, h2, (e bo h2).mp h3, h4, fun c hc hv => h5 c hc ((e c hc).mpr hv)⟩
/-- one more order is looked at: it isn't better -/
theorem bOf.no {s o : Nat → Int} (hA : WfA s) (hO : WfO s) {m n : Nat} (hm : m ≤ 3) (hn : sOn s m = n) {bm v : Int} {bo c : Nat → Int} (h : bOf s o m n (fun c' => LT n c' c) bm bo) (hc : isPm s m n c) (hv : MkR (sPut s m n c) o v) (hb : v < 0 ∨ (0 ≤ bm ∧ bm ≤ v)) : bOf s o m n (fun c' => LT n c' c ∨ EQ n c' c) bm bo := by
  obtain ⟨wA, wO⟩ := sPut_W hA hO hm hn hc
  rcases h with ⟨h1, h2⟩ | ⟨h1, h2, h3, h4, h5⟩
  · refine Or.inl ⟨h1, fun c' hc' hV => ?_⟩
    rcases hV with q | q
    · exact h2 c' hc' q
    · exact ⟨v, by rw [sPut_e q]; exact hv, by omega⟩
  · refine Or.inr ⟨h1, h2, Or.inl h3, h4, fun c' hc' hV v' hv' h0 => ?_⟩
    rcases hV with q | q
    · exact h5 c' hc' q v' hv' h0
    · rw [sPut_e q] at hv'
      have := hv'.uniq wA wO hv
      rcases (by omega : bm < v' ∨ bm = v') with z | z
      · exact Or.inl z
      · exact Or.inr ⟨z, Or.inr (h3.r q.symm)⟩
/-- one more order is looked at: it is better -/
theorem bOf.yes {s o : Nat → Int} (hA : WfA s) (hO : WfO s) {m n : Nat} (hm : m ≤ 3) (hn : sOn s m = n) {bm v : Int} {bo c b : Nat → Int} (h : bOf s o m n (fun c' => LT n c' c) bm bo) (hc : isPm s m n c) (hv : MkR (sPut s m n c) o v) (h0 : 0 ≤ v) (hb : bm < 0 ∨ v < bm) (he : EQ n c b) : bOf s o m n (fun c' => LT n c' c ∨ EQ n c' c) v b := by
  obtain ⟨wA, wO⟩ := sPut_W hA hO hm hn hc
  refine Or.inr ⟨h0, hc.e he, Or.inr he.symm, by rw [← sPut_e he]; exact hv, fun c' hc' hV v' hv' h0' => ?_⟩
  rcases hV with q | q
  · left
    rcases h with ⟨h1, h2⟩ | ⟨h1, h2, h3, h4, h5⟩
    · obtain ⟨x, x1, x2⟩ := h2 c' hc' q
      obtain ⟨zA, zO⟩ := sPut_W hA hO hm hn hc'
      have := x1.uniq zA zO hv'; omega
    · have := h5 c' hc' q v' hv' h0'; omega
  · right
    rw [sPut_e q] at hv'
    exact ⟨hv.uniq wA wO hv', Or.inl (he.symm.trans q.symm)⟩
/-- there is but one best order -/
theorem bOf.uniq {s o : Nat → Int} (hA : WfA s) (hO : WfO s) {m n : Nat} (hm : m ≤ 3) (hn : sOn s m = n) {V : (Nat → Int) → Prop} {bm bm' : Int} {bo bo' : Nat → Int} (h : bOf s o m n V bm bo) (g : bOf s o m n V bm' bo') : bm = bm' ∧ (0 ≤ bm → EQ n bo bo') := by
  rcases h with ⟨h1, h2⟩ | ⟨h1, h2, h3, h4, h5⟩ <;> rcases g with ⟨g1, g2⟩ | ⟨g1, g2, g3, g4, g5⟩
  · exact ⟨by omega, fun q => by omega⟩
  · obtain ⟨x, x1, x2⟩ := h2 _ g2 g3
    obtain ⟨zA, zO⟩ := sPut_W hA hO hm hn g2
    have := x1.uniq zA zO g4; omega
  · obtain ⟨x, x1, x2⟩ := g2 _ h2 h3
    obtain ⟨zA, zO⟩ := sPut_W hA hO hm hn h2
    have := x1.uniq zA zO h4; omega
  · have a := h5 _ g2 g3 _ g4 g1
    have b := g5 _ h2 h3 _ h4 h1
    have e : bm = bm' := by omega
    refine ⟨e, fun _ => ?_⟩
    rcases a with z | ⟨-, z | z⟩
    · omega
    · exact z
    · rcases b with y | ⟨-, y | y⟩
      · omega
      · exact y.symm
      · exact (z.asym y).elim
theorem sPut_n {s : Nat → Int} {m i : Nat} {b : Nat → Int} : sup (sPut s m i b) (183 + 5 * m + i) (b i) = sPut s m (i + 1) b := by
  funext j
  unfold sup sPut
  by_cases q : j = 183 + 5 * m + i
  · rw [if_pos q, if_pos (by omega), show j - (183 + 5 * m) = i by omega]
  · rw [if_neg q]
    split <;> split <;> first | rfl | omega
theorem sPut_0 {s : Nat → Int} {m : Nat} {b : Nat → Int} : sPut s m 0 b = s := by
  funext j
  exact if_neg (by omega)
theorem sPut_2 {s : Nat → Int} {m n : Nat} {b c : Nat → Int} : sPut (sPut s m n c) m n b = sPut s m n b := by
  funext j
  unfold sPut
  split <;> rfl
/-- how many entries differ from b -/
def dif (s : Nat → Int) (m : Nat) (b : Nat → Int) : Nat → Int
  | 0 => 0
  | i + 1 => dif s m b i + if s (183 + 5 * m + i) = b i then 0 else 1
theorem dif_r (s : Nat → Int) (m : Nat) (b : Nat → Int) : ∀ n : Nat, 0 ≤ dif s m b n ∧ dif s m b n ≤ n
  | 0 => by simp [dif]
  | n + 1 => by have := dif_r s m b n; unfold dif; split <;> omega
/-! no cycles: a rank that grows along each step -/
def Rk (s o r : Nat → Int) : Prop := ∀ k : Int, 0 ≤ k → k < s 1 → 0 ≤ r k.toNat ∧ (sBef s k ≠ -1 → r (sBef s k).toNat < r k.toNat) ∧ (sAh s o k ≠ -1 → r (sAh s o k).toNat < r k.toNat)
def ACy (s o : Nat → Int) : Prop := ∃ r, Rk s o r
theorem Rk.all {s o r st : Nat → Int} (hA : WfA s) (hO : WfO s) (h : Rk s o r) (hq : Tq s o st) : ∀ (n : Nat) (k : Int), 0 ≤ k → k < s 1 → (r k.toNat).toNat < n → 0 ≤ st k.toNat
  | 0, k, k0, k1, hn => by omega
  | n + 1, k, k0, k1, hn => by
    rcases Int.lt_or_le (st k.toNat) 0 with c | c
    · obtain ⟨r0, r1, r2⟩ := h k k0 k1
      rcases hq k k0 k1 c with ⟨a, b⟩ | ⟨a, b⟩
      · have q := ((sBef_ok hA k0 k1).resolve_left a).1
        have z := h _ q.1 q.2
        have := Rk.all hA hO h hq n _ q.1 q.2 (by have := r1 a; omega)
        omega
      · have q := ((sAh_ok (o := o) hA hO k0 k1).resolve_left a).2.1
        have z := h _ q.1 q.2
        have := Rk.all hA hO h hq n _ q.1 q.2 (by have := r2 a; omega)
        omega
    · exact c
theorem ACy.u0 {s o st : Nat → Int} (hA : WfA s) (hO : WfO s) (h : ACy s o) (hq : Tq s o st) : cntU st (s 1).toNat = 0 := by
  obtain ⟨r, hr⟩ := h
  have h20 := hA.2.1.1
  exact cntU_0.mpr fun i hi => by have := Rk.all hA hO hr hq ((r i).toNat + 1) i (by omega) (by omega) (by rw [Int.toNat_natCast]; omega); rw [Int.toNat_natCast] at this; exact this
theorem ACy.of {s o rd st : Nat → Int} {hd hu : Int} (hA : WfA s) (hO : WfO s) (h : Tp s o hd hu rd st) (h0 : cntU st (s 1).toNat = 0) : ACy s o := by
  have h20 := hA.2.1.1
  have hs : ∀ k : Int, 0 ≤ k → k < s 1 → 0 ≤ st k.toNat := fun k k0 k1 => cntU_0.mp h0 k.toNat (by omega)
  exact ⟨st, fun k k0 k1 => ⟨hs k k0 k1, Tp.lt hA hO h k0 k1 (hs k k0 k1)⟩⟩
theorem gEnd_0 (s st : Nat → Int) : ∀ n : Nat, 0 ≤ gEnd s st n
  | 0 => by simp [gEnd]
  | n + 1 => by have := gEnd_0 s st n; unfold gEnd; omega
theorem MkR.nn {s o : Nat → Int} {v : Int} (hA : WfA s) (hO : WfO s) (h : MkR s o v) (ha : ACy s o) : 0 ≤ v := by
  obtain ⟨rd, st, h1, h2, rfl⟩ := h
  have h0 := ha.u0 hA hO h2
  unfold mkS
  rw [if_neg (by omega)]
  exact gEnd_0 s st _
theorem MkR.ac {s o : Nat → Int} {v : Int} (hA : WfA s) (hO : WfO s) (h : MkR s o v) (hv : 0 ≤ v) : ACy s o := by
  obtain ⟨rd, st, h1, h2, rfl⟩ := h
  have := cntU_r st (s 1).toNat
  refine ACy.of hA hO h1 ?_
  unfold mkS at hv
  split at hv <;> omega
/-- the best one of all, if the machine's own order has no cycle -/
theorem bOf.own {s o : Nat → Int} (hA : WfA s) (hO : WfO s) {m n : Nat} (hm : m ≤ 3) (hn : sOn s m = n) {bm : Int} {bo c : Nat → Int} (h : bOf s o m n (fun _ => True) bm bo) (hc : isPm s m n c) (ha : ACy (sPut s m n c) o) : 0 ≤ bm ∧ isPm s m n bo ∧ MkR (sPut s m n bo) o bm := by
  rcases h with ⟨h1, h2⟩ | ⟨h1, h2, -, h4, -⟩
  · obtain ⟨x, x1, x2⟩ := h2 c hc trivial
    obtain ⟨zA, zO⟩ := sPut_W hA hO hm hn hc
    have := x1.nn zA zO ha
    omega
  · exact ⟨h1, h2, h4⟩

