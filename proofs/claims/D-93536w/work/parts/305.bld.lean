/-! ===== building orders by a rule ===== -/
theorem pig : ∀ (m n : Nat) (f : Nat → Int), (∀ i, i < n → 0 ≤ f i ∧ f i < m) → (∀ i j, i < n → j < n → f i = f j → i = j) → n ≤ m
  | 0, n, f, h, _ => by
    rcases (by omega : n = 0 ∨ 0 < n) with c | c
    · omega
    · have := h 0 c; omega
  | m + 1, n, f, h, g => by
    by_cases q : ∃ i, i < n ∧ f i = m
    · obtain ⟨i, hi, fi⟩ := q
      have := pig m (n - 1) (fun j => if j = i then f (n - 1) else f j) (fun j hj => by
        try dsimp only
        split
        · next e =>
          have h1 := h (n - 1) (by omega)
          have : f (n - 1) ≠ m := fun e2 => by have := g (n - 1) i (by omega) hi (by rw [e2, fi]); omega
          omega
        · next e =>
          have h1 := h j (by omega)
          have : f j ≠ m := fun e2 => e (g j i (by omega) hi (by rw [e2, fi]))
          omega) (fun a b ha hb hab => by
        try dsimp only at hab
        split at hab <;> split at hab
        · omega
        · have := g _ _ (by omega) (by omega) hab; omega
        · have := g _ _ (by omega) (by omega) hab; omega
        · exact g _ _ (by omega) (by omega) hab)
      omega
    · have := pig m n f (fun i hi => by
        have h1 := h i hi
        have : f i ≠ m := fun e => q ⟨i, hi, e⟩
        omega) g
      omega
/-- the time from which an operation might begin -/
noncomputable def cT (s fx : Nat → Int) (t k : Int) : Int :=
  let t2 := if sBef s k = -1 then max t (sRel s (sJb s k)) else max (max t (sRel s (sJb s k))) (fx (sBef s k).toNat + sDu s (sBef s k))
  if 0 < sOn s (sMc s k) then max t2 (fx (sOr s (sMc s k) (sOn s (sMc s k) - 1)).toNat + sDu s (sOr s (sMc s k) (sOn s (sMc s k) - 1)) + sSu s (sOr s (sMc s k) (sOn s (sMc s k) - 1)) k) else t2
noncomputable def cst (s fx : Nat → Int) (t k : Int) : Int := sFree s (sMc s k) (cT s fx t k) (sDu s k)
def rst (s : Nat → Int) (j i : Int) : Nat → Int
  | 0 => 0
  | r + 1 => rst s j i r + sDu s (sSeq s j (i + r))
def rOf (s : Nat → Int) (k : Int) : Int := rst s (sJb s k) (sIx s k) (sLen s (sJb s k) - sIx s k).toNat
abbrev pfr (s : Nat → Int) (u o b : Int) : Prop := (u = 0 ∧ sDu s o < sDu s b) ∨ (u = 1 ∧ rOf s b < rOf s o) ∨ (u = 2 ∧ sDue s (sJb s o) < sDue s (sJb s b))
/-- the operation that is chosen among the first n jobs, and its start -/
noncomputable def chs (s g fx : Nat → Int) (u t : Int) : Nat → Int × Int
  | 0 => (-1, 0)
  | j + 1 =>
    let x := chs s g fx u t j
    if g j < sLen s j ∧ (x.1 = -1 ∨ cst s fx t (sSeq s j (g j)) < x.2 ∨ (cst s fx t (sSeq s j (g j)) = x.2 ∧ pfr s u (sSeq s j (g j)) x.1)) then (sSeq s j (g j), cst s fx t (sSeq s j (g j))) else x
/-- the row with k at the end of its machine's order -/
def sAdd (s : Nat → Int) (k : Int) : Nat → Int := sup (sup s (183 + 5 * sMc s k + sOn s (sMc s k)).toNat k) (179 + sMc s k).toNat (sOn s (sMc s k) + 1)
/-- the orders are built on to the end, at most n operations -/
noncomputable def bld (u t : Int) : Nat → (Nat → Int) → (Nat → Int) → (Nat → Int) → (Nat → Int) × (Nat → Int) × (Nat → Int)
  | 0, s, g, fx => (s, g, fx)
  | n + 1, s, g, fx =>
    let c := chs s g fx u t (s 0).toNat
    if c.1 = -1 then (s, g, fx) else bld u t n (sAdd s c.1) (sup g (sJb s c.1).toNat (g (sJb s c.1).toNat + 1)) (sup fx c.1.toNat c.2)
theorem bld_d {u t : Int} {n : Nat} {s g fx : Nat → Int} (h : (chs s g fx u t (s 0).toNat).1 = -1) : bld u t (n + 1) s g fx = (s, g, fx) := by
  unfold bld
  exact if_pos h
theorem bld_s {u t : Int} {n : Nat} {s g fx : Nat → Int} {k v : Int} (h : chs s g fx u t (s 0).toNat = (k, v)) (hk : k ≠ -1) : bld u t (n + 1) s g fx = bld u t n (sAdd s k) (sup g (sJb s k).toNat (g (sJb s k).toNat + 1)) (sup fx k.toNat v) := by
  rw [bld]
  try dsimp only
  rw [h]
  exact if_neg hk
/-- operations that are still to come, of the first n jobs -/
def rem (s g : Nat → Int) : Nat → Int
  | 0 => 0
  | j + 1 => rem s g j + (sLen s j - g j)
/-- k is in the orders -/
def inO (s g : Nat → Int) (k : Int) : Prop := (0 ≤ k ∧ k < s 1) ∧ sIx s k < g (sJb s k).toNat
/-- what is so while orders are built -/
def BIG (s g _fx : Nat → Int) : Prop := ∀ j : Int, 0 ≤ j → j < s 0 → 0 ≤ g j.toNat ∧ g j.toNat ≤ sLen s j
def BIO (s g _fx : Nat → Int) : Prop := ∀ m : Int, 0 ≤ m → m ≤ 3 → (0 ≤ sOn s m ∧ sOn s m ≤ 5) ∧ (∀ p : Int, 0 ≤ p → p < sOn s m → inO s g (sOr s m p) ∧ sMc s (sOr s m p) = m) ∧ (∀ p q : Int, 0 ≤ p → p < sOn s m → 0 ≤ q → q < sOn s m → sOr s m p = sOr s m q → p = q) ∧ ∀ k : Int, inO s g k → sMc s k = m → ∃ p : Int, 0 ≤ p ∧ p < sOn s m ∧ sOr s m p = k
def BIF (s g fx : Nat → Int) : Prop := ∀ k : Int, inO s g k → 0 ≤ fx k.toNat ∧ fx k.toNat ≤ 1000 + 39 * (20 - rem s g (s 0).toNat)
def BIR (s g fx : Nat → Int) : Prop := ∀ k : Int, inO s g k → sBef s k ≠ -1 → fx (sBef s k).toNat < fx k.toNat
def BIM (s _g fx : Nat → Int) : Prop := ∀ m p : Int, 0 ≤ m → m ≤ 3 → 0 ≤ p → p + 1 < sOn s m → fx (sOr s m p).toNat < fx (sOr s m (p + 1)).toNat
def BI (s g fx : Nat → Int) : Prop := WfA s ∧ BIG s g fx ∧ BIO s g fx ∧ BIF s g fx ∧ BIR s g fx ∧ BIM s g fx
theorem BI.A {s g fx : Nat → Int} (h : BI s g fx) : WfA s := h.1
theorem BI.G {s g fx : Nat → Int} (h : BI s g fx) : ∀ j : Int, 0 ≤ j → j < s 0 → 0 ≤ g j.toNat ∧ g j.toNat ≤ sLen s j := h.2.1
theorem BI.O {s g fx : Nat → Int} (h : BI s g fx) : ∀ m : Int, 0 ≤ m → m ≤ 3 → (0 ≤ sOn s m ∧ sOn s m ≤ 5) ∧ (∀ p : Int, 0 ≤ p → p < sOn s m → inO s g (sOr s m p) ∧ sMc s (sOr s m p) = m) ∧ (∀ p q : Int, 0 ≤ p → p < sOn s m → 0 ≤ q → q < sOn s m → sOr s m p = sOr s m q → p = q) ∧ ∀ k : Int, inO s g k → sMc s k = m → ∃ p : Int, 0 ≤ p ∧ p < sOn s m ∧ sOr s m p = k := h.2.2.1
theorem BI.F {s g fx : Nat → Int} (h : BI s g fx) : ∀ k : Int, inO s g k → 0 ≤ fx k.toNat ∧ fx k.toNat ≤ 1000 + 39 * (20 - rem s g (s 0).toNat) := h.2.2.2.1
theorem BI.R {s g fx : Nat → Int} (h : BI s g fx) : ∀ k : Int, inO s g k → sBef s k ≠ -1 → fx (sBef s k).toNat < fx k.toNat := h.2.2.2.2.1
theorem BI.M {s g fx : Nat → Int} (h : BI s g fx) : ∀ m p : Int, 0 ≤ m → m ≤ 3 → 0 ≤ p → p + 1 < sOn s m → fx (sOr s m p).toNat < fx (sOr s m (p + 1)).toNat := h.2.2.2.2.2
theorem rem_r {s g : Nat → Int} (hJ : WfJ s) (hG : ∀ j : Int, 0 ≤ j → j < s 0 → 0 ≤ g j.toNat ∧ g j.toNat ≤ sLen s j) : ∀ n : Nat, (n : Int) ≤ s 0 → 0 ≤ rem s g n ∧ rem s g n ≤ 4 * n
  | 0, _ => by simp [rem]
  | n + 1, h => by
    have i := rem_r hJ hG n (by omega)
    have a := hG n (by omega) (by omega)
    have b := (hJ.2 n (by omega) (by omega)).2.2.2
    rw [Int.toNat_natCast] at a
    unfold rem
    omega
theorem BI.rr {s g fx : Nat → Int} (h : BI s g fx) : 0 ≤ rem s g (s 0).toNat ∧ rem s g (s 0).toNat ≤ 20 := by
  have h5 := h.A.1.1
  have := rem_r h.A.1 h.G (s 0).toNat (by omega)
  omega
theorem rem_add {s g : Nat → Int} {j : Nat} : ∀ n : Nat, rem s (sup g j (g j + 1)) n = rem s g n - if j < n then 1 else 0
  | 0 => by simp [rem]
  | n + 1 => by
    unfold rem
    rw [rem_add n]
    by_cases c : n = j
    · rw [c, sup_s, if_neg (by omega), if_pos (by omega)]; omega
    · rw [sup_n c]; split <;> split <;> omega
/-- what a choice gives -/
theorem chs_ok {s g fx : Nat → Int} {u t : Int} (hA : WfA s) (hG : ∀ j : Int, 0 ≤ j → j < s 0 → 0 ≤ g j.toNat ∧ g j.toNat ≤ sLen s j) : ∀ n : Nat, (n : Int) ≤ s 0 → ((chs s g fx u t n).1 = -1 ∧ ∀ j : Int, 0 ≤ j → j < n → g j.toNat = sLen s j) ∨ ∃ k, (0 ≤ k ∧ k < s 1) ∧ sIx s k = g (sJb s k).toNat ∧ chs s g fx u t n = (k, cst s fx t k)
  | 0, _ => Or.inl ⟨rfl, fun j h0 h1 => by omega⟩
  | n + 1, hn => by
    have ih := chs_ok (u := u) (t := t) (fx := fx) hA hG n (by omega)
    have hg := hG n (by omega) (by omega)
    rw [Int.toNat_natCast] at hg
    have e : chs s g fx u t (n + 1) = if g n < sLen s n ∧ ((chs s g fx u t n).1 = -1 ∨ cst s fx t (sSeq s n (g n)) < (chs s g fx u t n).2 ∨ (cst s fx t (sSeq s n (g n)) = (chs s g fx u t n).2 ∧ pfr s u (sSeq s n (g n)) (chs s g fx u t n).1)) then (sSeq s n (g n), cst s fx t (sSeq s n (g n))) else chs s g fx u t n := rfl
    rw [e]
    split
    · next c =>
      obtain ⟨a1, a2, a3⟩ := hA.2.2.1 n (g n) (by omega) (by omega) hg.1 c.1
      exact Or.inr ⟨_, a1, by rw [a2, a3, Int.toNat_natCast], rfl⟩
    · next c =>
      rcases ih with ⟨i1, i2⟩ | i
      · refine Or.inl ⟨i1, fun j h0 h1 => ?_⟩
        rcases (by omega : j < n ∨ j = n) with q | q
        · exact i2 j h0 q
        · rw [q, Int.toNat_natCast]
          rcases (by omega : g n < sLen s n ∨ g n = sLen s n) with z | z
          · exact absurd ⟨z, Or.inl i1⟩ c
          · exact z
      · exact Or.inr i
theorem cT_le {s fx : Nat → Int} {t k : Int} : t ≤ cT s fx t k ∧ sRel s (sJb s k) ≤ cT s fx t k ∧ (sBef s k ≠ -1 → fx (sBef s k).toNat + sDu s (sBef s k) ≤ cT s fx t k) ∧ (0 < sOn s (sMc s k) → fx (sOr s (sMc s k) (sOn s (sMc s k) - 1)).toNat + sDu s (sOr s (sMc s k) (sOn s (sMc s k) - 1)) + sSu s (sOr s (sMc s k) (sOn s (sMc s k) - 1)) k ≤ cT s fx t k) := by
  unfold cT
  try dsimp only
  split <;> split <;> omega
theorem cT_up {s fx : Nat → Int} {t k B : Int} (h1 : t ≤ B) (h2 : sRel s (sJb s k) ≤ B) (h3 : sBef s k ≠ -1 → fx (sBef s k).toNat + sDu s (sBef s k) ≤ B) (h4 : 0 < sOn s (sMc s k) → fx (sOr s (sMc s k) (sOn s (sMc s k) - 1)).toNat + sDu s (sOr s (sMc s k) (sOn s (sMc s k) - 1)) + sSu s (sOr s (sMc s k) (sOn s (sMc s k) - 1)) k ≤ B) : cT s fx t k ≤ B := by
  unfold cT
  try dsimp only
  split <;> split <;> omega
theorem sAdd_n {s : Nat → Int} {k : Int} {i : Nat} (h : i ≠ (179 + sMc s k).toNat) (h' : i ≠ (183 + 5 * sMc s k + sOn s (sMc s k)).toNat) : sAdd s k i = s i := by
  unfold sAdd
  rw [sup_n h, sup_n h']
/-- k, the next one of its job, fits -/
theorem BI.fit {s g fx : Nat → Int} (h : BI s g fx) {k : Int} (hk : 0 ≤ k ∧ k < s 1) (hi : sIx s k = g (sJb s k).toNat) : sOn s (sMc s k) < 5 := by
  obtain ⟨a1, a2, -⟩ := h.A.2.1.2 k hk.1 hk.2
  obtain ⟨o1, o2, o3, -⟩ := h.O _ a2.1 a2.2
  have h5 := h.A.1.1
  have := pig 5 ((sOn s (sMc s k)).toNat + 1) (fun i => if (i : Int) = sOn s (sMc s k) then sJb s k else sJb s (sOr s (sMc s k) i)) (fun i hi => by
    try dsimp only
    split
    · omega
    · next c =>
      obtain ⟨⟨b1, -⟩, -⟩ := o2 i (by omega) (by omega)
      have := (h.A.2.1.2 _ b1.1 b1.2).1
      omega) (fun i j hi' hj' hij => by
    have kk : ∀ p : Nat, (p : Int) < sOn s (sMc s k) → sJb s (sOr s (sMc s k) p) ≠ sJb s k := fun p hp e => by
      obtain ⟨⟨b1, b2⟩, b3⟩ := o2 p (by omega) hp
      have := h.A.2.2.2.1 _ k b1.1 b1.2 hk.1 hk.2 e b3
      rw [this] at b2
      omega
    try dsimp only at hij
    split at hij <;> split at hij
    · omega
    · exact absurd hij.symm (kk j (by omega))
    · exact absurd hij (kk i (by omega))
    · obtain ⟨⟨b1, -⟩, b3⟩ := o2 i (by omega) (by omega)
      obtain ⟨⟨c1, -⟩, c3⟩ := o2 j (by omega) (by omega)
      have := o3 i j (by omega) (by omega) (by omega) (by omega) (h.A.2.2.2.1 _ _ b1.1 b1.2 c1.1 c1.2 hij (by rw [b3, c3]))
      omega)
  omega
/-- the choice is put into its order -/
theorem BI.step {s g fx : Nat → Int} (h : BI s g fx) {t k : Int} (ht : 0 ≤ t ∧ t ≤ 999) (hk : 0 ≤ k ∧ k < s 1) (hi : sIx s k = g (sJb s k).toNat) : BI (sAdd s k) (sup g (sJb s k).toNat (g (sJb s k).toNat + 1)) (sup fx k.toNat (cst s fx t k)) ∧ rem (sAdd s k) (sup g (sJb s k).toNat (g (sJb s k).toNat + 1)) (sAdd s k 0).toNat = rem s g (s 0).toNat - 1 := by
  have hfit := h.fit hk hi
  have h20 := h.A.2.1.1
  have h05 := h.A.1.1
  obtain ⟨a1, a2, a3, a4, a5, a6⟩ := h.A.2.1.2 k hk.1 hk.2
  obtain ⟨o1, o2, o3, o4⟩ := h.O _ a2.1 a2.2
  have lo : ∀ i : Nat, i < 179 → sAdd s k i = s i := fun i hi => sAdd_n (by omega) (by omega)
  have e0 : sAdd s k 0 = s 0 := lo 0 (by omega)
  have e1 : sAdd s k 1 = s 1 := lo 1 (by omega)
  have jb : ∀ l : Int, 0 ≤ l → l < s 1 → sJb (sAdd s k) l = sJb s l := fun l l0 l1 => lo _ (by omega)
  have mc : ∀ l : Int, 0 ≤ l → l < s 1 → sMc (sAdd s k) l = sMc s l := fun l l0 l1 => lo _ (by omega)
  have ix : ∀ l : Int, 0 ≤ l → l < s 1 → sIx (sAdd s k) l = sIx s l := fun l l0 l1 => lo _ (by omega)
  have ln : ∀ j : Int, 0 ≤ j → j < s 0 → sLen (sAdd s k) j = sLen s j := fun j j0 j1 => lo _ (by omega)
  have bf : ∀ l : Int, 0 ≤ l → l < s 1 → sBef (sAdd s k) l = sBef s l := fun l l0 l1 => by
    obtain ⟨b1, -, -, -, b5, -⟩ := h.A.2.1.2 l l0 l1
    have := (h.A.1.2 _ b1.1 b1.2).2.2.2
    unfold sBef
    rw [ix l l0 l1, jb l l0 l1]
    split
    · rfl
    · exact lo _ (by omega)
  have hrem : rem (sAdd s k) (sup g (sJb s k).toNat (g (sJb s k).toNat + 1)) (sAdd s k 0).toNat = rem s g (s 0).toNat - 1 := by
    have e : ∀ (g : Nat → Int) (n : Nat), (n : Int) ≤ s 0 → rem (sAdd s k) g n = rem s g n := fun g n => by
      induction n with
      | zero => intro; rfl
      | succ n ih =>
        intro hn
        have l := ln n (by omega) (by omega)
        unfold rem
        rw [ih (by omega)]
        omega
    rw [e0, e _ _ (by omega), rem_add, if_pos (by omega)]
  refine ⟨?_, hrem⟩
  have inn : ∀ l : Int, inO (sAdd s k) (sup g (sJb s k).toNat (g (sJb s k).toNat + 1)) l ↔ (inO s g l ∨ l = k) := fun l => by
    unfold inO
    rw [e1]
    constructor
    · rintro ⟨c1, c2⟩
      rw [ix l c1.1 c1.2, jb l c1.1 c1.2] at c2
      obtain ⟨b1, -, -, -, b5, b6⟩ := h.A.2.1.2 l c1.1 c1.2
      by_cases q : sJb s l = sJb s k
      · rw [q, sup_s] at c2
        rcases (by omega : sIx s l < g (sJb s k).toNat ∨ sIx s l = sIx s k) with z | z
        · exact Or.inl ⟨c1, by rw [q]; exact z⟩
        · right
          rw [← b6, ← a6, q, z]
      · rw [sup_n (by omega)] at c2
        exact Or.inl ⟨c1, c2⟩
    · rintro (⟨c1, c2⟩ | rfl)
      · refine ⟨c1, ?_⟩
        rw [ix l c1.1 c1.2, jb l c1.1 c1.2]
        by_cases q : sJb s l = sJb s k
        · rw [q, sup_s]; rw [q] at c2; omega
        · obtain ⟨b1, -⟩ := h.A.2.1.2 l c1.1 c1.2
          rw [sup_n (by omega)]; exact c2
      · refine ⟨hk, ?_⟩
        rw [ix l hk.1 hk.2, jb l hk.1 hk.2, sup_s]
        omega
  have nk : ¬ inO s g k := fun q => by have := q.2; omega
  have fk : ∀ l : Int, inO s g l → sup fx k.toNat (cst s fx t k) l.toNat = fx l.toNat := fun l q => sup_n (fun e => nk (by
    obtain rfl : l = k := by have := q.1.1; omega
    exact q))
  have on : ∀ m : Int, 0 ≤ m → m ≤ 3 → sOn (sAdd s k) m = if m = sMc s k then sOn s m + 1 else sOn s m := fun m m0 m1 => by
    split
    · next q => rw [q]; exact sup_s
    · next q => exact sAdd_n (by omega) (by omega)
  have orO : ∀ m p : Int, 0 ≤ m → m ≤ 3 → 0 ≤ p → p < sOn s m → sOr (sAdd s k) m p = sOr s m p := fun m p m0 m1 p0 p1 => by
    obtain ⟨b1, -⟩ := h.O m m0 m1
    exact sAdd_n (by omega) (by by_cases q : m = sMc s k; (rw [q] at p1 ⊢; omega); omega)
  have orN : sOr (sAdd s k) (sMc s k) (sOn s (sMc s k)) = k := by
    show sup (sup s _ k) _ _ _ = k
    rw [sup_n (by omega), sup_s]
  have hB := h.A.2.2.2.2.2
  have hc := sFree_ok hB (m := sMc s k) (f := cT s fx t k) (d := sDu s k) a2
  have hle := hc.le hB a2
  have hct := cT_le (s := s) (fx := fx) (t := t) (k := k)
  have hrel := (h.A.1.2 _ a1.1 a1.2).1
  have hrr := h.rr
  have hbo := sBef_ok h.A hk.1 hk.2
  have hbin : sBef s k ≠ -1 → inO s g (sBef s k) ∧ 1 ≤ sDu s (sBef s k) ∧ sDu s (sBef s k) ≤ 30 := fun q => by
    obtain ⟨b1, b2, b3⟩ := hbo.resolve_left q
    exact ⟨⟨b1, by rw [b2]; omega⟩, (h.A.2.1.2 _ b1.1 b1.2).2.2.1⟩
  have hlin : 0 < sOn s (sMc s k) → inO s g (sOr s (sMc s k) (sOn s (sMc s k) - 1)) ∧ (1 ≤ sDu s (sOr s (sMc s k) (sOn s (sMc s k) - 1)) ∧ sDu s (sOr s (sMc s k) (sOn s (sMc s k) - 1)) ≤ 30) ∧ 0 ≤ sSu s (sOr s (sMc s k) (sOn s (sMc s k) - 1)) k ∧ sSu s (sOr s (sMc s k) (sOn s (sMc s k) - 1)) k ≤ 9 := fun q => by
    obtain ⟨c1, c2⟩ := o2 (sOn s (sMc s k) - 1) (by omega) (by omega)
    exact ⟨c1, (h.A.2.1.2 _ c1.1.1 c1.1.2).2.2.1, (h.A.su c1.1 hk).2.2⟩
  have hup : cT s fx t k ≤ 1000 + 39 * (20 - (rem s g (s 0).toNat - 1)) := cT_up (by omega) (by omega) (fun q => by obtain ⟨c1, c2⟩ := hbin q; have := h.F _ c1; omega) (fun q => by obtain ⟨c1, c2, c3⟩ := hlin q; have := h.F _ c1; omega)
  have hc1 := hc.1
  have hcc : 0 ≤ cst s fx t k ∧ cst s fx t k ≤ 1000 + 39 * (20 - (rem s g (s 0).toNat - 1)) := by
    unfold cst
    omega
  refine ⟨h.A.congr fun i hi => lo i hi, fun j j0 j1 => ?_, fun m m0 m1 => ?_, fun l hl => ?_, fun l hl hb => ?_, fun m p m0 m1 p0 p1 => ?_⟩
  · rw [e0] at j1
    rw [ln j j0 j1]
    have hg := h.G j j0 j1
    by_cases q : j = sJb s k
    · rw [q, sup_s]; rw [q] at hg; omega
    · rw [sup_n (by omega)]; exact hg
  · obtain ⟨p1, p2, p3, p4⟩ := h.O m m0 m1
    rw [on m m0 m1]
    by_cases q : m = sMc s k
    · subst q
      rw [if_pos rfl]
      have cs : ∀ p : Int, 0 ≤ p → p < sOn s (sMc s k) + 1 → (p < sOn s (sMc s k) ∧ sOr (sAdd s k) (sMc s k) p = sOr s (sMc s k) p) ∨ (p = sOn s (sMc s k) ∧ sOr (sAdd s k) (sMc s k) p = k) := fun p p0 p1 => by
        rcases (by omega : p < sOn s (sMc s k) ∨ p = sOn s (sMc s k)) with z | z
        · exact Or.inl ⟨z, orO _ p m0 m1 p0 z⟩
        · exact Or.inr ⟨z, by rw [z]; exact orN⟩
      refine ⟨by omega, fun p q0 q1 => ?_, fun a b a0 a1 b0 b1 hab => ?_, fun l hl hm => ?_⟩
      · rcases cs p q0 q1 with ⟨z, e⟩ | ⟨z, e⟩
        · obtain ⟨d1, d2⟩ := p2 p q0 z
          rw [e, inn, mc _ d1.1.1 d1.1.2]
          exact ⟨Or.inl d1, d2⟩
        · rw [e, inn, mc _ hk.1 hk.2]
          exact ⟨Or.inr rfl, rfl⟩
      · rcases cs a a0 a1 with ⟨z, e⟩ | ⟨z, e⟩ <;> rcases cs b b0 b1 with ⟨z', e'⟩ | ⟨z', e'⟩ <;> rw [e, e'] at hab
        · exact p3 a b a0 z b0 z' hab
        · exact absurd (hab ▸ (p2 a a0 z).1) nk
        · exact absurd (hab ▸ (p2 b b0 z').1) nk
        · omega
      · rcases (inn l).mp hl with z | z
        · rw [mc l z.1.1 z.1.2] at hm
          obtain ⟨p, q0, q1, q2⟩ := p4 l z hm
          exact ⟨p, q0, by omega, by rw [orO _ p m0 m1 q0 q1]; exact q2⟩
        · exact ⟨sOn s (sMc s k), by omega, by omega, by rw [orN, z]⟩
    · rw [if_neg q]
      refine ⟨p1, fun p q0 q1 => ?_, fun a b a0 a1 b0 b1 hab => ?_, fun l hl hm => ?_⟩
      · obtain ⟨d1, d2⟩ := p2 p q0 q1
        rw [orO m p m0 m1 q0 q1, inn, mc _ d1.1.1 d1.1.2]
        exact ⟨Or.inl d1, d2⟩
      · rw [orO m a m0 m1 a0 a1, orO m b m0 m1 b0 b1] at hab
        exact p3 a b a0 a1 b0 b1 hab
      · rcases (inn l).mp hl with z | z
        · rw [mc l z.1.1 z.1.2] at hm
          obtain ⟨p, q0, q1, q2⟩ := p4 l z hm
          exact ⟨p, q0, q1, by rw [orO m p m0 m1 q0 q1]; exact q2⟩
        · rw [z, mc k hk.1 hk.2] at hm
          exact absurd hm.symm q
  · rw [hrem]
    rcases (inn l).mp hl with z | z
    · rw [fk l z]
      have := h.F l z
      omega
    · rw [z, sup_s]
      omega
  · have hl1 : 0 ≤ l ∧ l < s 1 := by have := hl.1; rw [e1] at this; exact this
    rw [bf l hl1.1 hl1.2] at hb ⊢
    rcases (inn l).mp hl with z | z
    · obtain ⟨b1, b2, b3⟩ := (sBef_ok h.A hl1.1 hl1.2).resolve_left hb
      rw [fk l z, fk _ ⟨b1, by rw [b2, b3]; have := z.2; omega⟩]
      exact h.R l z hb
    · subst z
      obtain ⟨c1, c2⟩ := hbin hb
      have := hct.2.2.1 hb
      rw [fk _ c1, sup_s]
      unfold cst
      omega
  · obtain ⟨b1, b2, b3, b4⟩ := h.O m m0 m1
    rw [on m m0 m1] at p1
    by_cases q : m = sMc s k
    · subst q
      rw [if_pos rfl] at p1
      rcases (by omega : p + 1 < sOn s (sMc s k) ∨ p + 1 = sOn s (sMc s k)) with z | z
      · rw [orO _ p m0 m1 p0 (by omega), orO _ (p + 1) m0 m1 (by omega) z, fk _ (b2 p p0 (by omega)).1, fk _ (b2 (p + 1) (by omega) z).1]
        exact h.M _ p m0 m1 p0 z
      · obtain ⟨c1, c2, c3⟩ := hlin (by omega)
        have := hct.2.2.2 (by omega)
        rw [show sOn s (sMc s k) - 1 = p by omega] at c1 c2 c3 this
        rw [orO _ p m0 m1 p0 (by omega), fk _ c1, z, orN, sup_s]
        unfold cst
        omega
    · rw [if_neg q] at p1
      rw [orO _ p m0 m1 p0 (by omega), orO _ (p + 1) m0 m1 (by omega) p1, fk _ (b2 p p0 (by omega)).1, fk _ (b2 (p + 1) (by omega) p1).1]
      exact h.M _ p m0 m1 p0 p1
theorem BI.cr {s g fx : Nat → Int} (h : BI s g fx) {t k : Int} (ht : 0 ≤ t ∧ t ≤ 999) (hk : 0 ≤ k ∧ k < s 1) (hi : sIx s k = g (sJb s k).toNat) : 0 ≤ cst s fx t k ∧ cst s fx t k ≤ 2000 := by
  obtain ⟨q, e⟩ := h.step ht hk hi
  have h20 := h.A.2.1.1
  have h05 := h.A.1.1
  have a2 := (h.A.2.1.2 k hk.1 hk.2).2.1
  have hfit := h.fit hk hi
  have on := (h.O _ a2.1 a2.2).1
  have lo : ∀ i : Nat, i < 179 → sAdd s k i = s i := fun i hi => sAdd_n (by omega) (by omega)
  have e1 : sIx (sAdd s k) k = sIx s k := lo _ (by omega)
  have e2 : sJb (sAdd s k) k = sJb s k := lo _ (by omega)
  have := q.F k ⟨by rw [lo 1 (by omega)]; exact hk, by rw [e1, e2, sup_s]; omega⟩
  rw [sup_s, e] at this
  have := h.rr
  omega
/-- the built orders are whole -/
theorem BI.whole {s g fx : Nat → Int} (h : BI s g fx) (hg : ∀ j : Int, 0 ≤ j → j < s 0 → g j.toNat = sLen s j) : WfO s := by
  have al : ∀ k : Int, 0 ≤ k → k < s 1 → inO s g k := fun k k0 k1 => by
    obtain ⟨a1, -, -, -, a5, -⟩ := h.A.2.1.2 k k0 k1
    exact ⟨⟨k0, k1⟩, by rw [hg _ a1.1 a1.2]; exact a5.2⟩
  intro m m0 m1
  obtain ⟨o1, o2, o3, o4⟩ := h.O m m0 m1
  exact ⟨o1, fun p p0 p1 => ⟨(o2 p p0 p1).1.1, (o2 p p0 p1).2⟩, o3, fun k k0 k1 hk => o4 k (al k k0 k1) hk⟩
theorem bld_ok {u t : Int} (ht : 0 ≤ t ∧ t ≤ 999) : ∀ (n : Nat) (s g fx : Nat → Int), BI s g fx → rem s g (s 0).toNat ≤ n → BI (bld u t (n + 1) s g fx).1 (bld u t (n + 1) s g fx).2.1 (bld u t (n + 1) s g fx).2.2 ∧ (∀ j : Int, 0 ≤ j → j < s 0 → (bld u t (n + 1) s g fx).2.1 j.toNat = sLen s j) ∧ ∀ i : Nat, i < 179 → (bld u t (n + 1) s g fx).1 i = s i := by
  intro n
  induction n with
  | zero =>
    intro s g fx h hr
    have h05 := h.A.1.1
    rcases chs_ok (u := u) (t := t) (fx := fx) h.A h.G (s 0).toNat (by omega) with ⟨c1, c2⟩ | ⟨k, hk, hi, hc⟩
    · rw [bld_d c1]
      exact ⟨h, fun j j0 j1 => c2 j j0 (by omega), fun _ _ => rfl⟩
    · have := (h.step ht hk hi).2
      have q := (h.step ht hk hi).1.rr
      omega
  | succ n ih =>
    intro s g fx h hr
    have h05 := h.A.1.1
    have h20 := h.A.2.1.1
    rcases chs_ok (u := u) (t := t) (fx := fx) h.A h.G (s 0).toNat (by omega) with ⟨c1, c2⟩ | ⟨k, hk, hi, hc⟩
    · rw [bld_d c1]
      exact ⟨h, fun j j0 j1 => c2 j j0 (by omega), fun _ _ => rfl⟩
    · rw [bld_s hc (by omega)]
      obtain ⟨q, e⟩ := h.step ht hk hi
      have a2 := (h.A.2.1.2 k hk.1 hk.2).2.1
      have on := (h.O _ a2.1 a2.2).1
      have lo : ∀ i : Nat, i < 179 → sAdd s k i = s i := fun i hi => sAdd_n (by omega) (by omega)
      obtain ⟨r1, r2, r3⟩ := ih _ _ _ q (by omega)
      have l0 := lo 0 (by omega)
      exact ⟨r1, fun j j0 j1 => by rw [r2 j j0 (by omega)]; exact lo _ (by omega), fun i hi => by rw [r3 i hi]; exact lo i hi⟩
