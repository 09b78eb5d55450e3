/-! ===== dispatching: what is built depends on few numbers (plain) ===== -/
theorem KI.inn {s o : Nat → Int} {hd hu : Int} {rd st : Nat → Int} (hA : WfA s) (hO : WfO s) (h : Tp s o hd hu rd st) (hs : ∀ k : Int, 0 ≤ k → k < s 1 → 0 ≤ st k.toNat) {t : Int} {g fx : Nat → Int} (hK : KI s st t 4 0 g fx) : ∀ k : Int, inO (sKp s st t 4) g k ↔ ((0 ≤ k ∧ k < s 1) ∧ st k.toNat < t) := by
  have h05 := hA.1.1
  have h20 := hA.2.1.1
  have lo : ∀ i : Nat, (i < 179 ∨ 183 ≤ i) → sKp s st t 4 i = s i := fun i hi => if_neg (by omega)
  have e0 : sKp s st t 4 0 = s 0 := lo 0 (by omega)
  have e1 : sKp s st t 4 1 = s 1 := lo 1 (by omega)
  have jb : ∀ l : Int, 0 ≤ l → l < s 1 → sJb (sKp s st t 4) l = sJb s l := fun l l0 l1 => lo _ (by omega)
  have mc : ∀ l : Int, 0 ≤ l → l < s 1 → sMc (sKp s st t 4) l = sMc s l := fun l l0 l1 => lo _ (by omega)
  have ix : ∀ l : Int, 0 ≤ l → l < s 1 → sIx (sKp s st t 4) l = sIx s l := fun l l0 l1 => lo _ (by omega)
  have ln : ∀ j : Int, 0 ≤ j → j < s 0 → sLen (sKp s st t 4) j = sLen s j := fun j j0 j1 => lo _ (by omega)
  have orr : ∀ m p : Int, 0 ≤ m → 0 ≤ p → sOr (sKp s st t 4) m p = sOr s m p := fun m p m0 p0 => lo _ (by omega)
  have on : ∀ m : Int, 0 ≤ m → m ≤ 3 → sOn (sKp s st t 4) m = kN s st t m (sOn s m).toNat 0 := fun m m0 m1 => by
    show sKp s st t 4 (179 + m).toNat = _
    unfold sKp
    rw [if_pos (by omega), show (((179 + m).toNat - 179 : Nat) : Int) = m by omega]
  have bf : ∀ l : Int, 0 ≤ l → l < s 1 → sBef (sKp s st t 4) l = sBef s l := fun l l0 l1 => by
    obtain ⟨b1, -, -, -, b5, -⟩ := hA.2.1.2 l l0 l1
    have := (hA.1.2 _ b1.1 b1.2).2.2.2
    unfold sBef
    rw [ix l l0 l1, jb l l0 l1]
    split
    · rfl
    · exact lo _ (by omega)
  have hA' : WfA (sKp s st t 4) := hA.congr fun i hi => lo i (Or.inl hi)
  have lead : ∀ j : Int, 0 ≤ j → j < s 0 → (0 ≤ g j.toNat ∧ g j.toNat ≤ sLen s j) ∧ ∀ i : Int, 0 ≤ i → i < sLen s j → (i < g j.toNat ↔ st (sSeq s j i).toNat < t) := fun j j0 j1 => by
    have hl := (hA.1.2 j j0 j1).2.2.2
    have hh : ∀ i : Int, 0 ≤ i → i < sLen s j → hI s st t 4 0 (sSeq s j i) = if st (sSeq s j i).toNat < t then 1 else 0 := fun i i0 i1 => by
      have b := (hA.2.2.1 j i j0 j1 i0 i1).1
      exact hI_4 (hA.2.1.2 _ b.1 b.2).2.1.2
    obtain ⟨c1, c2⟩ := cI_lead (f := hI s st t 4 0) (s := s) (j := j) (sLen s j).toNat (fun i _ => hI_r _ _ _ _ _ _) (fun i hi q => by
      rw [hh i (by omega) (by omega)] at q
      rw [hh _ (by omega) (by omega)]
      obtain ⟨b1, b2, b3⟩ := hA.2.2.1 j ((i + 1 : Nat) : Int) j0 j1 (by omega) (by omega)
      have eb : sBef s (sSeq s j ((i + 1 : Nat) : Int)) = sSeq s j i := by
        unfold sBef
        rw [b2, b3, if_neg (by omega), show ((i + 1 : Nat) : Int) - 1 = i by omega]
      have z := (Tp.lt hA hO h b1.1 b1.2 (hs _ b1.1 b1.2)).1
      rw [eb] at z
      have b4 := (hA.2.2.1 j i j0 j1 (by omega) (by omega)).1
      have z := z (by omega)
      split at q
      · omega
      · exact if_neg (by omega))
    rw [hK.1 j j0 j1]
    refine ⟨by omega, fun i i0 i1 => ?_⟩
    have := c2 i.toNat (by omega)
    rw [show ((i.toNat : Nat) : Int) = i by omega, hh i i0 i1] at this
    rw [this]
    split <;> omega
  have inn : ∀ k : Int, inO (sKp s st t 4) g k ↔ ((0 ≤ k ∧ k < s 1) ∧ st k.toNat < t) := fun k => by
    unfold inO
    rw [e1]
    constructor
    · rintro ⟨c1, c2⟩
      obtain ⟨a1, a2, a3, a4, a5, a6⟩ := hA.2.1.2 k c1.1 c1.2
      rw [ix k c1.1 c1.2, jb k c1.1 c1.2] at c2
      have := ((lead _ a1.1 a1.2).2 _ a5.1 a5.2).mp c2
      rw [a6] at this
      exact ⟨c1, this⟩
    · rintro ⟨c1, c2⟩
      obtain ⟨a1, a2, a3, a4, a5, a6⟩ := hA.2.1.2 k c1.1 c1.2
      rw [ix k c1.1 c1.2, jb k c1.1 c1.2]
      exact ⟨c1, ((lead _ a1.1 a1.2).2 _ a5.1 a5.2).mpr (by rw [a6]; exact c2)⟩
  exact inn
theorem kN_cg {s st st' : Nat → Int} {t m : Int} (hO : WfO s) (hm : 0 ≤ m ∧ m ≤ 3) (e : ∀ k : Int, 0 ≤ k → k < s 1 → st k.toNat = st' k.toNat) : ∀ (r : Nat) (p : Int), 0 ≤ p → p + r ≤ sOn s m → kN s st t m r p = kN s st' t m r p
  | 0, p, _, _ => rfl
  | r + 1, p, p0, p1 => by
    have q := ((hO m hm.1 hm.2).2.1 p p0 (by omega)).1
    unfold kN
    rw [e _ q.1 q.2, kN_cg hO hm e r (p + 1) (by omega) (by omega)]
theorem sKp_cg {s st st' : Nat → Int} {t : Int} (hO : WfO s) (e : ∀ k : Int, 0 ≤ k → k < s 1 → st k.toNat = st' k.toNat) : sKp s st t 4 = sKp s st' t 4 := by
  funext i
  unfold sKp
  by_cases c : 179 ≤ i ∧ i < 179 + 4
  · rw [if_pos c, if_pos c]
    have on := (hO ((i - 179 : Nat) : Int) (by omega) (by omega)).1
    have es : s i = sOn s ((i - 179 : Nat) : Int) := congrArg s (by omega)
    exact kN_cg hO (by omega) e _ 0 (by omega) (by rw [es]; omega)
  · rw [if_neg c, if_neg c]
theorem KI.cg {s st st' : Nat → Int} {t m p : Int} {g fx : Nat → Int} (hA : WfA s) (e : ∀ k : Int, 0 ≤ k → k < s 1 → st k.toNat = st' k.toNat) (h : KI s st t m p g fx) : KI s st' t m p g fx := by
  have hh : ∀ k : Int, 0 ≤ k → k < s 1 → hI s st' t m p k = hI s st t m p k := fun k k0 k1 => by unfold hI; rw [e k k0 k1]
  refine ⟨fun j j0 j1 => ?_, fun k k0 k1 q => ?_⟩
  · have hl := (hA.1.2 j j0 j1).2.2.2
    rw [h.1 j j0 j1]
    exact (cI_congr _ fun i hi => by
      have b := (hA.2.2.1 j i j0 j1 (by omega) (by omega)).1
      exact hh _ b.1 b.2).symm
  · rw [hh k k0 k1] at q
    rw [h.2 k k0 k1 q, e k k0 k1]
section DPc
variable {s g fx g' fx' : Nat → Int} {u t : Int}
theorem cst_cg (h : BI s g fx) (hf : ∀ k : Int, inO s g k → fx k.toNat = fx' k.toNat) {k : Int} (hk : 0 ≤ k ∧ k < s 1) (hi : sIx s k = g (sJb s k).toNat) : cst s fx t k = cst s fx' t k := by
  have e1 : sBef s k ≠ -1 → fx (sBef s k).toNat = fx' (sBef s k).toNat := fun q => by
    obtain ⟨b1, b2, b3⟩ := (sBef_ok h.A hk.1 hk.2).resolve_left q
    exact hf _ ⟨b1, by rw [b2, b3, hi]; omega⟩
  have hm := (h.A.2.1.2 k hk.1 hk.2).2.1
  have e2 : 0 < sOn s (sMc s k) → fx (sOr s (sMc s k) (sOn s (sMc s k) - 1)).toNat = fx' (sOr s (sMc s k) (sOn s (sMc s k) - 1)).toNat := fun q => hf _ ((h.O _ hm.1 hm.2).2.1 _ (by omega) (by omega)).1
  unfold cst cT
  by_cases c1 : sBef s k = -1 <;> by_cases c2 : 0 < sOn s (sMc s k)
  · simp only [if_pos c1, if_pos c2, e2 c2]
  · simp only [if_pos c1, if_neg c2]
  · simp only [if_neg c1, if_pos c2, e1 c1, e2 c2]
  · simp only [if_neg c1, if_neg c2, e1 c1]
theorem chs_cg (h : BI s g fx) (hg : ∀ j : Int, 0 ≤ j → j < s 0 → g j.toNat = g' j.toNat) (hf : ∀ k : Int, inO s g k → fx k.toNat = fx' k.toNat) : ∀ n : Nat, (n : Int) ≤ s 0 → chs s g fx u t n = chs s g' fx' u t n
  | 0, _ => rfl
  | n + 1, hn => by
    have e := hg n (by omega) (by omega)
    rw [Int.toNat_natCast] at e
    have ih := chs_cg h hg hf n (by omega)
    have hG := h.G n (by omega) (by omega)
    rw [Int.toNat_natCast] at hG
    unfold chs
    rw [← ih, ← e]
    by_cases c : g n < sLen s n
    · obtain ⟨b1, b2, b3⟩ := h.A.2.2.1 n (g n) (by omega) (by omega) hG.1 c
      have ec := cst_cg (t := t) h hf b1 (by rw [b2, b3, Int.toNat_natCast])
      rw [ec]
    · rw [if_neg (fun q => c q.1), if_neg (fun q => c q.1)]
theorem bld_cg (ht : 0 ≤ t ∧ t ≤ 999) : ∀ (n : Nat) (s g fx g' fx' : Nat → Int), BI s g fx → (∀ j : Int, 0 ≤ j → j < s 0 → g j.toNat = g' j.toNat) → (∀ k : Int, inO s g k → fx k.toNat = fx' k.toNat) → (bld u t n s g fx).1 = (bld u t n s g' fx').1 ∧ ∀ i : Nat, i < 179 → (bld u t n s g fx).1 i = s i
  | 0, s, g, fx, g', fx', _, _, _ => ⟨rfl, fun _ _ => rfl⟩
  | n + 1, s, g, fx, g', fx', h, hg, hf => by
    have h05 := h.A.1.1
    have ec := chs_cg (u := u) (t := t) h hg hf (s 0).toNat (by omega)
    unfold bld
    rw [← ec]
    rcases chs_ok (fx := fx) (u := u) (t := t) h.A h.G (s 0).toNat (by omega) with ⟨c1, -⟩ | ⟨k, hk, hi, c1⟩
    · simp only [if_pos c1]
      refine ⟨?_, fun _ _ => ?_⟩ <;> first | rfl | trivial
    · rw [c1]
      have hk1 : ¬ k = -1 := by omega
      simp only [if_neg hk1]
      obtain ⟨hn, -⟩ := h.step ht hk hi
      obtain ⟨a1, a2, a3, a4, a5, a6⟩ := h.A.2.1.2 k hk.1 hk.2
      have on := (h.O _ a2.1 a2.2).1
      have lo : ∀ i : Nat, i < 179 → sAdd s k i = s i := fun i hi => by unfold sAdd; rw [sup_n (by omega), sup_n (by omega)]
      have e0 := lo 0 (by omega)
      have ih := bld_cg ht n (sAdd s k) (sup g (sJb s k).toNat (g (sJb s k).toNat + 1)) (sup fx k.toNat (cst s fx t k)) (sup g' (sJb s k).toNat (g' (sJb s k).toNat + 1)) (sup fx' k.toNat (cst s fx t k)) hn (fun j j0 j1 => by
        rw [e0] at j1
        by_cases z : j.toNat = (sJb s k).toNat
        · rw [z, sup_s, sup_s, hg _ a1.1 a1.2]
        · rw [sup_n z, sup_n z]; exact hg j j0 j1) (fun q hq => by
        obtain ⟨q1, q2⟩ := hq
        rw [lo 1 (by omega)] at q1
        have h20 := h.A.2.1.1
        by_cases z : q.toNat = k.toNat
        · rw [z, sup_s, sup_s]
        · rw [sup_n z, sup_n z]
          refine hf q ⟨q1, ?_⟩
          have ej : sJb (sAdd s k) q = sJb s q := lo _ (by omega)
          have ei : sIx (sAdd s k) q = sIx s q := lo _ (by omega)
          rw [ej, ei] at q2
          by_cases y : (sJb s q).toNat = (sJb s k).toNat
          · rw [y, sup_s] at q2
            rw [y]
            obtain ⟨d1, d2, d3, d4, d5, d6⟩ := h.A.2.1.2 q q1.1 q1.2
            have : sIx s q ≠ sIx s k := fun e => z (by rw [← d6, ← a6, e, show sJb s q = sJb s k by omega])
            omega
          · rw [sup_n y] at q2; exact q2)
      refine ⟨?_, fun i hi => (ih.2 i hi).trans (lo i hi)⟩
      have e5 : g' (sJb s k).toNat = g (sJb s k).toNat := (hg _ a1.1 a1.2).symm
      exact ih.1
end DPc
