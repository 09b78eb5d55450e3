/-! ===== bounds: one machine, work that may be broken off ===== -/
def hdN (s : Nat → Int) (j : Int) : Nat → Int
  | 0 => sRel s j
  | n + 1 => hdN s j n + sDu s (sSeq s j n)
/-- head and tail of an operation -/
def hdO (s : Nat → Int) (k : Int) : Int := hdN s (sJb s k) (sIx s k).toNat
def tlO (s : Nat → Int) (k : Int) : Int := rOf s k - sDu s k
/-- k may run at time t -/
def bCd (s lf : Nat → Int) (m t k : Int) : Prop := (0 ≤ k ∧ k < s 1) ∧ sMc s k = m ∧ 0 < lf k.toNat ∧ hdO s k ≤ t
/-- k is chosen: the greatest tail, then the least number -/
def bCh (s lf : Nat → Int) (m t k : Int) : Prop := bCd s lf m t k ∧ ∀ l, bCd s lf m t l → tlO s l < tlO s k ∨ (tlO s l = tlO s k ∧ k ≤ l)
def bR (s : Nat → Int) (m : Int) : Nat → Int → (Nat → Int) → Int → Int → Int → Prop
  | 0, _, _, _, _, _ => False
  | n + 1, t, lf, u, b, v => (u ≤ 0 ∧ v = b) ∨ (0 < u ∧ (((∀ k, ¬ bCd s lf m t k) ∧ bR s m n (t + 1) lf u b v) ∨ ∃ k, bCh s lf m t k ∧ ((lf k.toNat - 1 = 0 ∧ bR s m n (t + 1) (sup lf k.toNat (lf k.toNat - 1)) (u - 1) (max b (t + 1 + tlO s k)) v) ∨ (lf k.toNat - 1 ≠ 0 ∧ bR s m n (t + 1) (sup lf k.toNat (lf k.toNat - 1)) u b v))))
theorem bCh.uniq {s lf : Nat → Int} {m t k l : Int} (h : bCh s lf m t k) (g : bCh s lf m t l) : k = l := by
  have a := h.2 l g.1
  have b := g.2 k h.1
  omega
theorem hdN_r {s : Nat → Int} (hA : WfA s) {j : Int} (hj : 0 ≤ j ∧ j < s 0) : ∀ n : Nat, (n : Int) ≤ sLen s j → 0 ≤ hdN s j n ∧ hdN s j n ≤ 99 + 30 * n
  | 0, _ => by have := (hA.1.2 j hj.1 hj.2).1; unfold hdN; omega
  | n + 1, h => by
    have a := hdN_r hA hj n (by omega)
    have b := (hA.2.2.1 j n hj.1 hj.2 (by omega) (by omega)).1
    have c := (hA.2.1.2 _ b.1 b.2).2.2.1
    unfold hdN
    omega
theorem hdO_r {s : Nat → Int} (hA : WfA s) {k : Int} (hk : 0 ≤ k ∧ k < s 1) : 0 ≤ hdO s k ∧ hdO s k ≤ 199 := by
  obtain ⟨a1, a2, a3, a4, a5, a6⟩ := hA.2.1.2 k hk.1 hk.2
  have hln := (hA.1.2 _ a1.1 a1.2).2.2.2
  have := hdN_r hA a1 (sIx s k).toNat (by omega)
  unfold hdO
  omega
/-- how much is left, and of how many, of the first n of m's order -/
def sLf (s lf : Nat → Int) (m : Int) : Nat → Int
  | 0 => 0
  | n + 1 => sLf s lf m n + lf (sOr s m n).toNat
def cLf (s lf : Nat → Int) (m : Int) : Nat → Int
  | 0 => 0
  | n + 1 => cLf s lf m n + if 0 < lf (sOr s m n).toNat then 1 else 0
theorem sLf_o {s lf : Nat → Int} {m : Int} {k : Nat} {v : Int} : ∀ n : Nat, (∀ p : Nat, p < n → (sOr s m p).toNat ≠ k) → sLf s (sup lf k v) m n = sLf s lf m n ∧ cLf s (sup lf k v) m n = cLf s lf m n
  | 0, _ => ⟨rfl, rfl⟩
  | n + 1, h => by
    have i := sLf_o (s := s) (lf := lf) (m := m) (k := k) (v := v) n (fun p hp => h p (by omega))
    have e := h n (by omega)
    unfold sLf cLf
    rw [i.1, i.2, sup_n e]
    exact ⟨rfl, rfl⟩
theorem sLf_s {s lf : Nat → Int} {m : Int} {v : Int} {p0 : Nat} : ∀ n : Nat, p0 < n → (∀ p q : Nat, p < n → q < n → (sOr s m p).toNat = (sOr s m q).toNat → p = q) → sLf s (sup lf (sOr s m p0).toNat v) m n = sLf s lf m n + v - lf (sOr s m p0).toNat ∧ cLf s (sup lf (sOr s m p0).toNat v) m n = cLf s lf m n + (if 0 < v then 1 else 0) - (if 0 < lf (sOr s m p0).toNat then 1 else 0)
  | 0, h, _ => by omega
  | n + 1, h, g => by
    rcases (by omega : p0 < n ∨ p0 = n) with c | c
    · have i := sLf_s (s := s) (lf := lf) (m := m) (v := v) (p0 := p0) n c (fun p q hp hq => g p q (by omega) (by omega))
      have e : (sOr s m n).toNat ≠ (sOr s m p0).toNat := fun e => by have := g n p0 (by omega) (by omega) e; omega
      unfold sLf cLf
      rw [i.1, i.2, sup_n e]
      omega
    · subst c
      have i := sLf_o (s := s) (lf := lf) (m := m) (k := (sOr s m p0).toNat) (v := v) p0 (fun p hp e => by have := g p p0 (by omega) (by omega) e; omega)
      unfold sLf cLf
      rw [i.1, i.2, sup_s]
      omega
theorem cLf_p {s lf : Nat → Int} {m : Int} : ∀ n : Nat, 0 < cLf s lf m n → ∃ p : Nat, p < n ∧ 0 < lf (sOr s m p).toNat
  | 0, h => by unfold cLf at h; omega
  | n + 1, h => by
    by_cases c : 0 < lf (sOr s m n).toNat
    · exact ⟨n, by omega, c⟩
    · unfold cLf at h
      rw [if_neg c] at h
      obtain ⟨p, hp, q⟩ := cLf_p (s := s) (lf := lf) (m := m) n (by omega)
      exact ⟨p, by omega, q⟩
theorem sLf_r {s lf : Nat → Int} {m : Int} : ∀ n : Nat, (∀ p : Nat, p < n → 0 ≤ lf (sOr s m p).toNat ∧ lf (sOr s m p).toNat ≤ 30) → (0 ≤ sLf s lf m n ∧ sLf s lf m n ≤ 30 * n) ∧ 0 ≤ cLf s lf m n ∧ cLf s lf m n ≤ n
  | 0, _ => by simp [sLf, cLf]
  | n + 1, h => by
    have i := sLf_r (s := s) (lf := lf) (m := m) n (fun p hp => h p (by omega))
    have j := h n (by omega)
    unfold sLf cLf
    split <;> omega

