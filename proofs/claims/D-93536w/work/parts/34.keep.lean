/-! ===== what is kept of the orders before a time ===== -/
/-- how many of machine m are kept, from place p on -/
def kN (s st : Nat → Int) (t m : Int) : Nat → Int → Int
  | 0, p => p
  | r + 1, p => if st (sOr s m p).toNat < t then kN s st t m r (p + 1) else p
/-- 1 for an operation that is kept, on the machines before m, on m before place p -/
def hI (s st : Nat → Int) (t m p k : Int) : Int := if (sMc s k < m ∨ (sMc s k = m ∧ sPos s k < p)) ∧ st k.toNat < t then 1 else 0
def cI (f : Int → Int) (s : Nat → Int) (j : Int) : Nat → Int
  | 0 => 0
  | n + 1 => cI f s j n + f (sSeq s j n)
theorem cI_congr {f f' : Int → Int} {s : Nat → Int} {j : Int} : ∀ n : Nat, (∀ i : Nat, i < n → f' (sSeq s j i) = f (sSeq s j i)) → cI f' s j n = cI f s j n
  | 0, _ => rfl
  | n + 1, h => by
    unfold cI
    rw [cI_congr n (fun i hi => h i (by omega)), h n (by omega)]
theorem cI_one {f f' : Int → Int} {s : Nat → Int} {j : Int} {x : Nat} (hx : f' (sSeq s j x) = f (sSeq s j x) + 1) : ∀ n : Nat, x < n → (∀ i : Nat, i < n → i ≠ x → f' (sSeq s j i) = f (sSeq s j i)) → cI f' s j n = cI f s j n + 1
  | 0, h, _ => by omega
  | n + 1, h, g => by
    unfold cI
    rcases (by omega : x = n ∨ x < n) with q | q
    · subst q
      rw [cI_congr x (fun i hi => g i (by omega) (by omega)), hx]
      omega
    · rw [cI_one hx n q (fun i hi hn => g i (by omega) hn), g n (by omega) (by omega)]
      omega
/-- ones first, then zeros -/
theorem cI_lead {f : Int → Int} {s : Nat → Int} {j : Int} : ∀ n : Nat, (∀ i : Nat, i < n → f (sSeq s j i) = 0 ∨ f (sSeq s j i) = 1) → (∀ i : Nat, i + 1 < n → f (sSeq s j i) = 0 → f (sSeq s j (i + 1 : Nat)) = 0) → (0 ≤ cI f s j n ∧ cI f s j n ≤ n) ∧ ∀ i : Nat, i < n → ((i : Int) < cI f s j n ↔ f (sSeq s j i) = 1)
  | 0, _, _ => ⟨by simp [cI], fun i hi => by omega⟩
  | n + 1, h, g => by
    obtain ⟨a, b⟩ := cI_lead n (fun i hi => h i (by omega)) (fun i hi => g i (by omega))
    have hn := h n (by omega)
    have e : cI f s j (n + 1) = cI f s j n + f (sSeq s j n) := rfl
    have hz : f (sSeq s j n) = 1 → cI f s j n = n := fun q => by
      cases n with
      | zero => rfl
      | succ n =>
        have := b n (by omega)
        have g1 := g n (by omega)
        have h1 := h n (by omega)
        omega
    refine ⟨by omega, fun i hi => ?_⟩
    rw [e]
    rcases (by omega : i < n ∨ i = n) with q | q
    · have := b i q
      constructor
      · intro z
        rcases hn with y | y
        · exact this.mp (by omega)
        · exact this.mp (by have := hz y; omega)
      · intro z
        have := this.mpr z
        omega
    · subst q
      constructor
      · intro z; omega
      · intro z
        have := hz z
        omega
/-- the keeping, at machine m, place p -/
def KI (s st : Nat → Int) (t m p : Int) (g fx : Nat → Int) : Prop := (∀ j : Int, 0 ≤ j → j < s 0 → g j.toNat = cI (hI s st t m p) s j (sLen s j).toNat) ∧ ∀ k : Int, 0 ≤ k → k < s 1 → hI s st t m p k = 1 → fx k.toNat = st k.toNat
theorem hI_r (s st : Nat → Int) (t m p k : Int) : hI s st t m p k = 0 ∨ hI s st t m p k = 1 := by unfold hI; split <;> omega
theorem KI.init {s st : Nat → Int} {t : Int} (hA : WfA s) {g fx : Nat → Int} (hg : ∀ j : Int, 0 ≤ j → j < s 0 → g j.toNat = 0) : KI s st t 0 0 g fx := by
  have hp : ∀ k, 0 ≤ k → k < s 1 → hI s st t 0 0 k = 0 := fun k k0 k1 => by
    have := (hA.2.1.2 k k0 k1).2.1
    have h2 : 0 ≤ sPos s k := (sPos_r s k).1
    exact if_neg (by omega)
  refine ⟨fun j j0 j1 => ?_, fun k k0 k1 q => by rw [hp k k0 k1] at q; omega⟩
  rw [hg j j0 j1]
  have : ∀ n : Nat, (n : Int) ≤ sLen s j → cI (hI s st t 0 0) s j n = 0 := by
    intro n
    induction n with
    | zero => intro; rfl
    | succ n ih =>
      intro hn
      have a := (hA.2.2.1 j n j0 j1 (by omega) (by omega)).1
      unfold cI
      rw [ih (by omega), hp _ a.1 a.2]
      omega
  exact (this _ (by have := (hA.1.2 j j0 j1).2.2.2; omega)).symm
theorem KI.step {s st : Nat → Int} {t m p : Int} (hA : WfA s) (hO : WfO s) {g fx : Nat → Int} (h : KI s st t m p g fx) (hm : 0 ≤ m ∧ m ≤ 3) (hp : 0 ≤ p ∧ p < sOn s m) (ht : st (sOr s m p).toNat < t) : KI s st t m (p + 1) (sup g (sJb s (sOr s m p)).toNat (g (sJb s (sOr s m p)).toNat + 1)) (sup fx (sOr s m p).toNat (st (sOr s m p).toNat)) := by
  obtain ⟨o1, o2, o3, o4⟩ := hO m hm.1 hm.2
  obtain ⟨q1, q2⟩ := o2 p hp.1 hp.2
  generalize ho : sOr s m p = o at *
  obtain ⟨a1, a2, a3, a4, a5, a6⟩ := hA.2.1.2 o q1.1 q1.2
  have po := hO.pos q1 a2
  have hpo : sPos s o = p := o3 _ _ po.1.1.1 (by rw [← q2]; exact po.2) hp.1 hp.2 (by have := po.1.2.1; rw [q2] at this; rw [this, ho])
  have ne : ∀ k : Int, 0 ≤ k → k < s 1 → k ≠ o → hI s st t m (p + 1) k = hI s st t m p k := fun k k0 k1 hk => by
    have : ¬ (sMc s k = m ∧ sPos s k = p) := fun ⟨c1, c2⟩ => hk (by
      have pk := (hO.pos ⟨k0, k1⟩ (hA.2.1.2 k k0 k1).2.1).1.2.1
      rw [c1, c2, ho] at pk
      exact pk.symm)
    unfold hI
    split <;> split <;> first | rfl | omega
  have eo : hI s st t m (p + 1) o = hI s st t m p o + 1 := by
    unfold hI
    rw [if_pos (by omega), if_neg (by omega)]
    omega
  refine ⟨fun j j0 j1 => ?_, fun k k0 k1 q => ?_⟩
  · have hl := (hA.1.2 j j0 j1).2.2.2
    by_cases c : j = sJb s o
    · subst c
      rw [sup_s, h.1 _ j0 j1]
      refine (cI_one (x := (sIx s o).toNat) (f := hI s st t m p) (f' := hI s st t m (p + 1)) (by rw [show (((sIx s o).toNat : Nat) : Int) = sIx s o by omega, a6]; exact eo) _ (by omega) (fun i hi hx => ?_)).symm
      obtain ⟨b1, b2, b3⟩ := hA.2.2.1 _ i j0 j1 (by omega) (by omega)
      exact ne _ b1.1 b1.2 (fun e => by rw [e] at b3; omega)
    · rw [sup_n (by omega), h.1 j j0 j1]
      refine (cI_congr _ fun i hi => ?_).symm
      obtain ⟨b1, b2, b3⟩ := hA.2.2.1 j i j0 j1 (by omega) (by omega)
      exact ne _ b1.1 b1.2 (fun e => c (by rw [e] at b2; exact b2.symm))
  · by_cases c : k = o
    · rw [c, sup_s]
    · rw [sup_n (by omega)]
      exact h.2 k k0 k1 (by rw [← ne k k0 k1 c]; exact q)
theorem KI.next {s st : Nat → Int} {t m p : Int} (hA : WfA s) (hO : WfO s) {g fx : Nat → Int} (h : KI s st t m p g fx) (hm : 0 ≤ m ∧ m ≤ 3) (hp : 0 ≤ p) (ht : ∀ q : Int, p ≤ q → q < sOn s m → t ≤ st (sOr s m q).toNat) : KI s st t (m + 1) 0 g fx := by
  have ne : ∀ k : Int, 0 ≤ k → k < s 1 → hI s st t (m + 1) 0 k = hI s st t m p k := fun k k0 k1 => by
    have pk := hO.pos ⟨k0, k1⟩ (hA.2.1.2 k k0 k1).2.1
    have h2 := sPos_r s k
    have : sMc s k = m → p ≤ sPos s k → t ≤ st k.toNat := fun c1 c2 => by
      have := ht (sPos s k) c2 (by rw [← c1]; exact pk.2)
      rw [← c1, pk.1.2.1] at this
      exact this
    unfold hI
    split <;> split <;> first | rfl | omega
  refine ⟨fun j j0 j1 => ?_, fun k k0 k1 q => h.2 k k0 k1 (by rw [← ne k k0 k1]; exact q)⟩
  rw [h.1 j j0 j1]
  have hl := (hA.1.2 j j0 j1).2.2.2
  refine (cI_congr _ fun i hi => ?_).symm
  have b1 := (hA.2.2.1 j i j0 j1 (by omega) (by omega)).1
  exact ne _ b1.1 b1.2
/-- the row with the kept orders of the first n machines -/
def sKp (s st : Nat → Int) (t : Int) (n : Nat) : Nat → Int := fun i => if 179 ≤ i ∧ i < 179 + n then kN s st t (i - 179 : Nat) (s i).toNat 0 else s i
theorem sKp_s {s st : Nat → Int} {t : Int} {n : Nat} : sup (sKp s st t n) (179 + n) (kN s st t n (s (179 + n)).toNat 0) = sKp s st t (n + 1) := by
  funext i
  unfold sup sKp
  by_cases c : i = 179 + n
  · subst c
    rw [if_pos rfl, if_pos (by omega), show 179 + n - 179 = n by omega]
  · rw [if_neg c]
    split <;> split <;> first | rfl | omega
theorem kN_ok {s st : Nat → Int} {t m : Int} : ∀ (r : Nat) (p : Int), p ≤ kN s st t m r p ∧ kN s st t m r p ≤ p + r ∧ (∀ q : Int, p ≤ q → q < kN s st t m r p → st (sOr s m q).toNat < t) ∧ (kN s st t m r p = p + r ∨ t ≤ st (sOr s m (kN s st t m r p)).toNat)
  | 0, p => ⟨by simp [kN], by simp [kN], fun q q0 q1 => by simp [kN] at q1; omega, Or.inl (by simp [kN])⟩
  | r + 1, p => by
    unfold kN
    split
    · next c =>
      obtain ⟨a1, a2, a3, a4⟩ := kN_ok (s := s) (st := st) (t := t) (m := m) r (p + 1)
      refine ⟨by omega, by omega, fun q q0 q1 => ?_, by omega⟩
      rcases (by omega : q = p ∨ p + 1 ≤ q) with z | z
      · rw [z]; exact c
      · exact a3 q z q1
    · next c => exact ⟨by omega, by omega, fun q q0 q1 => by omega, Or.inr (by omega)⟩
theorem hI_4 {s st : Nat → Int} {t k : Int} (h : sMc s k ≤ 3) : hI s st t 4 0 k = if st k.toNat < t then 1 else 0 := by
  unfold hI
  split <;> split <;> first | rfl | omega
/-- starts grow along a machine's order -/
theorem Tp.adj {s o : Nat → Int} {hd hu : Int} {rd st : Nat → Int} (hA : WfA s) (hO : WfO s) (h : Tp s o hd hu rd st) {m p : Int} (hm : 0 ≤ m ∧ m ≤ 3) (ho : o m.toNat = 0) (hp : 0 ≤ p ∧ p + 1 < sOn s m) (hs : 0 ≤ st (sOr s m (p + 1)).toNat) : st (sOr s m p).toNat < st (sOr s m (p + 1)).toNat := by
  obtain ⟨o1, o2, o3, o4⟩ := hO m hm.1 hm.2
  obtain ⟨q1, q2⟩ := o2 (p + 1) (by omega) hp.2
  obtain ⟨r1, r2⟩ := o2 p hp.1 (by omega)
  have po := hO.pos q1 (by rw [q2]; exact hm)
  have hpo : sPos s (sOr s m (p + 1)) = p + 1 := o3 _ _ po.1.1.1 (by have := po.2; rw [q2] at this; exact this) (by omega) hp.2 (by have := po.1.2.1; rw [q2] at this; exact this)
  have e : sAh s o (sOr s m (p + 1)) = sOr s m p := by
    unfold sAh
    rw [q2, hpo, if_neg (by rw [ho]; omega), if_neg (by omega), show p + 1 - 1 = p by omega]
  have := (Tp.lt hA hO h q1.1 q1.2 hs).2
  rw [e] at this
  exact this (by have := r1.1; omega)
theorem Tp.mono {s o : Nat → Int} {hd hu : Int} {rd st : Nat → Int} (hA : WfA s) (hO : WfO s) (h : Tp s o hd hu rd st) {m p : Int} (hm : 0 ≤ m ∧ m ≤ 3) (ho : o m.toNat = 0) (hp : 0 ≤ p) (hs : ∀ k : Int, 0 ≤ k → k < s 1 → 0 ≤ st k.toNat) : ∀ n : Nat, p + n < sOn s m → st (sOr s m p).toNat ≤ st (sOr s m (p + n)).toNat
  | 0, _ => by rw [show p + ((0 : Nat) : Int) = p by omega]; omega
  | n + 1, hn => by
    have i := Tp.mono hA hO h hm ho hp hs n (by omega)
    obtain ⟨o1, o2, -⟩ := hO m hm.1 hm.2
    have q1 := (o2 (p + n + 1) (by omega) (by omega)).1
    have := Tp.adj hA hO h (p := p + n) hm ho (by omega) (hs _ q1.1 q1.2)
    rw [show p + ((n + 1 : Nat) : Int) = p + n + 1 by omega]
    omega
theorem KI.bi {s o : Nat → Int} {hd hu : Int} {rd st : Nat → Int} (hA : WfA s) (hO : WfO s) (h : Tp s o hd hu rd st) (ho : ∀ m : Nat, m < 4 → o m = 0) (hs : ∀ k : Int, 0 ≤ k → k < s 1 → 0 ≤ st k.toNat) {t : Int} (ht : t ≤ 999) {g fx : Nat → Int} (hK : KI s st t 4 0 g fx) : BI (sKp s st t 4) g fx := by
  have h05 := hA.1.1
  have h20 := hA.2.1.1
  have lo : ∀ i : Nat, (i < 179 ∨ 183 ≤ i) → sKp s st t 4 i = s i := fun i hi => if_neg (by omega)
  have e0 : sKp s st t 4 0 = s 0 := lo 0 (by omega)
  have e1 : sKp s st t 4 1 = s 1 := lo 1 (by omega)
  have jb : ∀ l : Int, 0 ≤ l → l < s 1 → sJb (sKp s st t 4) l = sJb s l := fun l l0 l1 => lo _ (by omega)
  have mc : ∀ l : Int, 0 ≤ l → l < s 1 → sMc (sKp s st t 4) l = sMc s l := fun l l0 l1 => lo _ (by omega)
  have ix : ∀ l : Int, 0 ≤ l → l < s 1 → sIx (sKp s st t 4) l = sIx s l := fun l l0 l1 => lo _ (by omega)
  have ln : ∀ j : Int, 0 ≤ j → j < s 0 → sLen (sKp s st t 4) j = sLen s j := fun j j0 j1 => lo _ (by omega)
  have orr : ∀ m p : Int, 0 ≤ m → 0 ≤ p → sOr (sKp s st t 4) m p = sOr s m p := fun m p m0 p0 => lo _ (by omega)
  have on : ∀ m : Int, 0 ≤ m → m ≤ 3 → sOn (sKp s st t 4) m = kN s st t m (sOn s m).toNat 0 := fun m m0 m1 => by
    show sKp s st t 4 (179 + m).toNat = _
    unfold sKp
    rw [if_pos (by omega), show (((179 + m).toNat - 179 : Nat) : Int) = m by omega]
  have bf : ∀ l : Int, 0 ≤ l → l < s 1 → sBef (sKp s st t 4) l = sBef s l := fun l l0 l1 => by
    obtain ⟨b1, -, -, -, b5, -⟩ := hA.2.1.2 l l0 l1
    have := (hA.1.2 _ b1.1 b1.2).2.2.2
    unfold sBef
    rw [ix l l0 l1, jb l l0 l1]
    split
    · rfl
    · exact lo _ (by omega)
  have hA' : WfA (sKp s st t 4) := hA.congr fun i hi => lo i (Or.inl hi)
  have lead : ∀ j : Int, 0 ≤ j → j < s 0 → (0 ≤ g j.toNat ∧ g j.toNat ≤ sLen s j) ∧ ∀ i : Int, 0 ≤ i → i < sLen s j → (i < g j.toNat ↔ st (sSeq s j i).toNat < t) := fun j j0 j1 => by
    have hl := (hA.1.2 j j0 j1).2.2.2
    have hh : ∀ i : Int, 0 ≤ i → i < sLen s j → hI s st t 4 0 (sSeq s j i) = if st (sSeq s j i).toNat < t then 1 else 0 := fun i i0 i1 => by
      have b := (hA.2.2.1 j i j0 j1 i0 i1).1
      exact hI_4 (hA.2.1.2 _ b.1 b.2).2.1.2
    obtain ⟨c1, c2⟩ := cI_lead (f := hI s st t 4 0) (s := s) (j := j) (sLen s j).toNat (fun i _ => hI_r _ _ _ _ _ _) (fun i hi q => by
      rw [hh i (by omega) (by omega)] at q
      rw [hh _ (by omega) (by omega)]
      obtain ⟨b1, b2, b3⟩ := hA.2.2.1 j ((i + 1 : Nat) : Int) j0 j1 (by omega) (by omega)
      have eb : sBef s (sSeq s j ((i + 1 : Nat) : Int)) = sSeq s j i := by
        unfold sBef
        rw [b2, b3, if_neg (by omega), show ((i + 1 : Nat) : Int) - 1 = i by omega]
      have z := (Tp.lt hA hO h b1.1 b1.2 (hs _ b1.1 b1.2)).1
      rw [eb] at z
      have b4 := (hA.2.2.1 j i j0 j1 (by omega) (by omega)).1
      have z := z (by omega)
      split at q
      · omega
      · exact if_neg (by omega))
    rw [hK.1 j j0 j1]
    refine ⟨by omega, fun i i0 i1 => ?_⟩
    have := c2 i.toNat (by omega)
    rw [show ((i.toNat : Nat) : Int) = i by omega, hh i i0 i1] at this
    rw [this]
    split <;> omega
  have inn : ∀ k : Int, inO (sKp s st t 4) g k ↔ ((0 ≤ k ∧ k < s 1) ∧ st k.toNat < t) := fun k => by
    unfold inO
    rw [e1]
    constructor
    · rintro ⟨c1, c2⟩
      obtain ⟨a1, a2, a3, a4, a5, a6⟩ := hA.2.1.2 k c1.1 c1.2
      rw [ix k c1.1 c1.2, jb k c1.1 c1.2] at c2
      have := ((lead _ a1.1 a1.2).2 _ a5.1 a5.2).mp c2
      rw [a6] at this
      exact ⟨c1, this⟩
    · rintro ⟨c1, c2⟩
      obtain ⟨a1, a2, a3, a4, a5, a6⟩ := hA.2.1.2 k c1.1 c1.2
      rw [ix k c1.1 c1.2, jb k c1.1 c1.2]
      exact ⟨c1, ((lead _ a1.1 a1.2).2 _ a5.1 a5.2).mpr (by rw [a6]; exact c2)⟩
  have fxe : ∀ k : Int, 0 ≤ k → k < s 1 → st k.toNat < t → fx k.toNat = st k.toNat := fun k k0 k1 q => hK.2 k k0 k1 (by rw [hI_4 (hA.2.1.2 k k0 k1).2.1.2]; exact if_pos q)
  have hG : ∀ j : Int, 0 ≤ j → j < sKp s st t 4 0 → 0 ≤ g j.toNat ∧ g j.toNat ≤ sLen (sKp s st t 4) j := fun j j0 j1 => by
    rw [e0] at j1
    rw [ln j j0 j1]
    exact (lead j j0 j1).1
  have hrem := rem_r hA'.1 hG (sKp s st t 4 0).toNat (by rw [e0]; omega)
  refine ⟨hA', hG, fun m m0 m1 => ?_, fun k q => ?_, fun k q hb => ?_, fun m p m0 m1 p0 p1 => ?_⟩
  · obtain ⟨o1, o2, o3, o4⟩ := hO m m0 m1
    obtain ⟨k1, k2, k3, k4⟩ := kN_ok (s := s) (st := st) (t := t) (m := m) (sOn s m).toNat 0
    rw [on m m0 m1]
    generalize hn : kN s st t m (sOn s m).toNat 0 = n at *
    refine ⟨by omega, fun p q0 q1 => ?_, fun a b a0 a1 b0 b1 hab => ?_, fun k hk hm => ?_⟩
    · obtain ⟨d1, d2⟩ := o2 p q0 (by omega)
      rw [orr m p m0 q0, inn, mc _ d1.1 d1.2]
      exact ⟨⟨d1, k3 p q0 q1⟩, d2⟩
    · rw [orr m a m0 a0, orr m b m0 b0] at hab
      exact o3 a b a0 (by omega) b0 (by omega) hab
    · obtain ⟨c1, c2⟩ := (inn k).mp hk
      rw [mc k c1.1 c1.2] at hm
      obtain ⟨p, q0, q1, q2⟩ := o4 k c1.1 c1.2 hm
      refine ⟨p, q0, ?_, by rw [orr m p m0 q0]; exact q2⟩
      rcases (by omega : p < n ∨ n ≤ p) with z | z
      · exact z
      · have y := Tp.mono hA hO h ⟨m0, m1⟩ (ho m.toNat (by omega)) (p := n) (by omega) hs (p - n).toNat (by omega)
        rw [show n + (((p - n).toNat : Nat) : Int) = p by omega, q2] at y
        omega
  · obtain ⟨c1, c2⟩ := (inn k).mp q
    rw [fxe k c1.1 c1.2 c2]
    have := hs k c1.1 c1.2
    omega
  · obtain ⟨c1, c2⟩ := (inn k).mp q
    rw [bf k c1.1 c1.2] at hb ⊢
    have := (Tp.lt hA hO h c1.1 c1.2 (hs _ c1.1 c1.2)).1 hb
    have b1 := ((sBef_ok hA c1.1 c1.2).resolve_left hb).1
    rw [fxe k c1.1 c1.2 c2, fxe _ b1.1 b1.2 (by omega)]
    exact this
  · obtain ⟨o1, o2, o3, o4⟩ := hO m m0 m1
    obtain ⟨k1, k2, k3, k4⟩ := kN_ok (s := s) (st := st) (t := t) (m := m) (sOn s m).toNat 0
    rw [on m m0 m1] at p1
    have b1 := (o2 p p0 (by omega)).1
    have b2 := (o2 (p + 1) (by omega) (by omega)).1
    rw [orr m p m0 p0, orr m (p + 1) m0 (by omega), fxe _ b1.1 b1.2 (k3 p p0 (by omega)), fxe _ b2.1 b2.2 (k3 (p + 1) (by omega) p1)]
    exact Tp.adj hA hO h ⟨m0, m1⟩ (ho m.toNat (by omega)) ⟨p0, by omega⟩ (hs _ b2.1 b2.2)

