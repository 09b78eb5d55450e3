/-! ===== an order's entry moved to another place ===== -/
def wRow (w : tW) (s : Nat → Int) : tW := fun f => if f = 0 then s else w f
theorem wRow_0 {w : tW} {s : Nat → Int} : wRow w s 0 = s := if_pos rfl
theorem wRow_f {w : tW} {s : Nat → Int} {f : Nat} (h : f ≠ 0) : wRow w s f = w f := if_neg h
theorem wRow_i {w : tW} : wRow w (w 0) = w := by
  funext f
  unfold wRow
  split
  · next h => rw [h]
  · rfl
theorem wRow_w {w : tW} {s t : Nat → Int} : wRow (wRow w s) t = wRow w t := by
  funext f
  unfold wRow
  split <;> rfl
theorem wRow_e {w w' : tW} (h : ∀ f, f ≠ 0 → w' f = w f) : w' = wRow w (w' 0) := by
  funext f
  unfold wRow
  split
  · next q => rw [q]
  · next q => exact h f q
def sUp (s : Nat → Int) (m a : Int) : Nat → Nat → Int
  | 0 => s
  | n + 1 => sXc (sUp s m a n) m (a + n)
def sDn (s : Nat → Int) (m a : Int) : Nat → Nat → Int
  | 0 => s
  | n + 1 => sXc (sDn s m a n) m (a - n - 1)
theorem sUp_f {m : Int} : ∀ (n : Nat) (s : Nat → Int) (a : Int), sUp s m a (n + 1) = sUp (sXc s m a) m (a + 1) n
  | 0, s, a => by show sXc s m (a + (0 : Nat)) = sXc s m a; rw [show a + ((0 : Nat) : Int) = a by omega]
  | n + 1, s, a => by
    show sXc (sUp s m a (n + 1)) m (a + (n + 1 : Nat)) = sXc (sUp (sXc s m a) m (a + 1) n) m (a + 1 + n)
    rw [sUp_f n s a, show a + ((n + 1 : Nat) : Int) = a + 1 + n by omega]
theorem sDn_f {m : Int} : ∀ (n : Nat) (s : Nat → Int) (a : Int), sDn s m a (n + 1) = sDn (sXc s m (a - 1)) m (a - 1) n
  | 0, s, a => by show sXc s m (a - (0 : Nat) - 1) = sXc s m (a - 1); rw [show a - ((0 : Nat) : Int) - 1 = a - 1 by omega]
  | n + 1, s, a => by
    show sXc (sDn s m a (n + 1)) m (a - (n + 1 : Nat) - 1) = sXc (sDn (sXc s m (a - 1)) m (a - 1) n) m (a - 1 - n - 1)
    rw [sDn_f n s a, show a - ((n + 1 : Nat) : Int) - 1 = a - 1 - n - 1 by omega]
theorem sXc_twice {s : Nat → Int} {m p : Int} (hm : 0 ≤ m) (hp : 0 ≤ p) : sXc (sXc s m p) m p = s := by
  have a : sXc s m p (183 + 5 * m + p).toNat = s (183 + 5 * m + (p + 1)).toNat := by unfold sXc; rw [sup_n (by omega), sup_s]
  have b : sXc s m p (183 + 5 * m + (p + 1)).toNat = s (183 + 5 * m + p).toNat := by unfold sXc; rw [sup_s]
  funext i
  show sup (sup (sXc s m p) (183 + 5 * m + p).toNat (sXc s m p (183 + 5 * m + (p + 1)).toNat)) (183 + 5 * m + (p + 1)).toNat (sXc s m p (183 + 5 * m + p).toNat) i = s i
  rw [a, b]
  by_cases c : i = (183 + 5 * m + (p + 1)).toNat
  · rw [c, sup_s]
  · rw [sup_n c]
    by_cases d : i = (183 + 5 * m + p).toNat
    · rw [d, sup_s]
    · rw [sup_n d]
      unfold sXc
      rw [sup_n c, sup_n d]
theorem sUp_u {m : Int} (hm : 0 ≤ m) : ∀ (n : Nat) (s : Nat → Int) (a : Int), 0 ≤ a → sDn (sUp s m a n) m (a + n) n = s
  | 0, s, a, h => rfl
  | n + 1, s, a, h => by
    rw [sDn_f, show a + ((n + 1 : Nat) : Int) - 1 = a + n by omega]
    show sDn (sXc (sXc (sUp s m a n) m (a + n)) m (a + n)) m (a + n) n = s
    rw [sXc_twice hm (by omega)]
    exact sUp_u hm n s a h
theorem sDn_u {m : Int} (hm : 0 ≤ m) : ∀ (n : Nat) (s : Nat → Int) (a : Int), n ≤ a → sUp (sDn s m a n) m (a - n) n = s
  | 0, s, a, h => rfl
  | n + 1, s, a, h => by
    rw [sUp_f, show a - ((n + 1 : Nat) : Int) = a - n - 1 by omega]
    show sUp (sXc (sXc (sDn s m a n) m (a - n - 1)) m (a - n - 1)) m (a - n - 1 + 1) n = s
    rw [sXc_twice hm (by omega), show a - (n : Int) - 1 + 1 = a - n by omega]
    exact sDn_u hm n s a (by omega)
/-- from place a to place b -/
def sSh (s : Nat → Int) (m a b : Int) : Nat → Int := sDn (sUp s m a (b - a).toNat) m a (a - b).toNat
theorem sSh_u {s : Nat → Int} {m a b : Int} (hm : 0 ≤ m) (ha : 0 ≤ a) (hb : 0 ≤ b) : sSh (sSh s m a b) m b a = s := by
  unfold sSh
  rcases (by omega : a ≤ b ∨ b < a) with c | c
  · rw [show (a - b).toNat = 0 by omega]
    obtain ⟨n, rfl⟩ : ∃ n : Nat, b = a + n := ⟨(b - a).toNat, by omega⟩
    rw [show (a + (n : Int) - a).toNat = n by omega]
    exact sUp_u hm n s a ha
  · rw [show (b - a).toNat = 0 by omega]
    obtain ⟨n, rfl⟩ : ∃ n : Nat, b = a - n := ⟨(a - b).toNat, by omega⟩
    rw [show (a - (a - (n : Int))).toNat = n by omega]
    exact sDn_u hm n s a (by omega)
theorem sXc_on {s : Nat → Int} {m p : Int} (hm : 0 ≤ m) (hp : 0 ≤ p) : sOn (sXc s m p) m = sOn s m ∨ 4 ≤ m := by
  rcases (by omega : 4 ≤ m ∨ m < 4) with c | c
  · exact Or.inr c
  · exact Or.inl (sXc_lo hm hp (by omega))
theorem sUp_W {m : Int} (hm : 0 ≤ m ∧ m ≤ 3) : ∀ (n : Nat) (s : Nat → Int) (a : Int), 0 ≤ a → a + n < sOn s m → WfA s → WfO s → WfA (sUp s m a n) ∧ WfO (sUp s m a n) ∧ ∀ i : Nat, i < 183 → sUp s m a n i = s i
  | 0, s, a, h, hn, hA, hO => ⟨hA, hO, fun i hi => rfl⟩
  | n + 1, s, a, h, hn, hA, hO => by
    obtain ⟨h1, h2, h3⟩ := sUp_W hm n s a h (by omega) hA hO
    have e : sOn (sUp s m a n) m = sOn s m := h3 _ (by omega)
    exact ⟨sXc_A hm.1 (by omega) h1, sXc_O h1 h2 hm (by rw [e]; omega), fun i hi => (sXc_lo hm.1 (by omega) hi).trans (h3 i hi)⟩
theorem sDn_W {m : Int} (hm : 0 ≤ m ∧ m ≤ 3) : ∀ (n : Nat) (s : Nat → Int) (a : Int), n ≤ a → a < sOn s m → WfA s → WfO s → WfA (sDn s m a n) ∧ WfO (sDn s m a n) ∧ ∀ i : Nat, i < 183 → sDn s m a n i = s i
  | 0, s, a, h, hn, hA, hO => ⟨hA, hO, fun i hi => rfl⟩
  | n + 1, s, a, h, hn, hA, hO => by
    obtain ⟨h1, h2, h3⟩ := sDn_W hm n s a (by omega) hn hA hO
    have e : sOn (sDn s m a n) m = sOn s m := h3 _ (by omega)
    exact ⟨sXc_A hm.1 (by omega) h1, sXc_O h1 h2 hm (by rw [e]; omega), fun i hi => (sXc_lo hm.1 (by omega) hi).trans (h3 i hi)⟩
theorem sSh_W {s : Nat → Int} {m a b : Int} (hm : 0 ≤ m ∧ m ≤ 3) (ha : 0 ≤ a ∧ a < sOn s m) (hb : 0 ≤ b ∧ b < sOn s m) (hA : WfA s) (hO : WfO s) : WfA (sSh s m a b) ∧ WfO (sSh s m a b) ∧ ∀ i : Nat, i < 183 → sSh s m a b i = s i := by
  unfold sSh
  rcases (by omega : a ≤ b ∨ b < a) with c | c
  · rw [show (a - b).toNat = 0 by omega]
    exact sUp_W hm _ s a ha.1 (by omega) hA hO
  · rw [show (b - a).toNat = 0 by omega]
    exact sDn_W hm _ s a (by omega) ha.2 hA hO
