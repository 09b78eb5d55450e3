/-! ===== the component: the next order ===== -/
/-- f' comes next behind f -/
def nxF (f f' : Nat → Int) (n : Nat) : Prop := ∃ p q, p < q ∧ q < n ∧ f p < f q ∧ (∀ i, p < i → i + 1 < n → f (i + 1) < f i) ∧ (∀ j, q < j → j < n → f j < f p) ∧ (∀ i, i < p → f' i = f i) ∧ f' p = f q ∧ ∀ i, p < i → i < n → f' i = swF f p q (n + p - i)
section XOt
variable {h : zH} {o r : Nat} {f : Nat → Int}
theorem x3_adv {P : (Nat → Int) → Prop} {n : Nat} (ho : h o = some (oO r n)) (hr : h r = some (aI 5 f)) (hn : n ≤ 5) (r8 : 1000 ≤ r) (hP : P f) (hPx : ∀ f p q, P f → p < q → q < n → P (swF f p q)) (hPr : ∀ f, P f → ∀ p, p < n → -2147483648 ≤ f p ∧ f p ≤ 2147483647) (hPd : ∀ f, P f → ∀ i j, i < n → j < n → f i = f j → i = j) : zMet yX3_advance (ws_ yX3_advance cX3_advance 7 (some .boolean)) 1 [.ref o] h (fun z h' => (z = .inl (some (.int (iI 0))) ∧ h' = h ∧ ∀ i, i + 1 < n → f (i + 1) < f i) ∨ (∃ f', z = .inl (some (.int (iI 1))) ∧ h' = zup h r (aI 5 f') ∧ P f' ∧ nxF f f' n ∧ ∀ i, n ≤ i → f' i = f i)) 0 0 := by
  have hne : o ≠ r := fun e => by rw [e, hr] at ho; cases ho
  have ho' : ∀ x, zup h r x o = some (oO r n) := fun x => (zup_ne hne).trans ho
  refine zMet.of (by decide) (Nat.le_of_ble_eq_true rfl) fun X K => ?_
  generalize hQ : (fun (z : zO) (h' : zH) => (z = .inl (some (.int (iI 0))) ∧ h' = h ∧ ∀ i, i + 1 < n → f (i + 1) < f i) ∨ (∃ f', z = .inl (some (.int (iI 1))) ∧ h' = zup h r (aI 5 f') ∧ P f' ∧ nxF f f' n ∧ ∀ i, n ≤ i → f' i = f i)) = Q
  have q0 : (∀ i, i + 1 < n → f (i + 1) < f i) → Q (.inl (some (.int (iI 0)))) h := fun hz => by rw [← hQ]; exact Or.inl ⟨rfl, rfl, hz⟩
  have q1 : ∀ f', P f' → nxF f f' n → (∀ i, n ≤ i → f' i = f i) → Q (.inl (some (.int (iI 1)))) (zup h r (aI 5 f')) := fun f' a1 a2 a3 => by rw [← hQ]; exact Or.inr ⟨f', rfl, rfl, a1, a2, a3⟩
  clear hQ
  -- the reversal
  have l3 : ∀ (p q : Nat), p < q → q < n → f p < f q → (∀ i, p < i → i + 1 < n → f (i + 1) < f i) → (∀ j, q < j → j < n → f j < f p) → ∀ (m a e : Nat) (w : Nat → Int), p < a → a ≤ e + 1 → e < n → a + e = p + n → e + 1 - a ≤ m → P w → (∀ x, x ≤ p ∨ n ≤ x → w x = swF f p q x) → (∀ x, a ≤ x → x ≤ e → w x = swF f p q x) → (∀ x, p < x → x < a → w x = swF f p q (n + p - x)) → (∀ x, e < x → x < n → w x = swF f p q (n + p - x)) → ∀ env, zsub env [(0, .ref o), (4, .int (iI a)), (5, .int (iI e))] → zW X Q (zup h r (aI 5 w)) 0 0 107 env [] := by
    intro p q hpq hqn hfpq hdesc hsm m
    induction m with
    | zero =>
      intro a e w a1 a2 a3 a4 a5 hPw w1 w2 w3 w4 env he
      refine zW.cut he ?_
      have hfin := q1 w hPw ⟨p, q, hpq, hqn, hfpq, hdesc, hsm, fun i hi => by rw [w1 i (by omega)]; unfold swF; rw [sup_n (by omega), sup_n (by omega)], by rw [w1 p (by omega)]; unfold swF; rw [sup_n (by omega), sup_s], fun i i1 i2 => by
        rcases (by omega : i < a ∨ e < i) with z | z
        · exact w3 i i1 z
        · exact w4 i z i2⟩ (fun i hi => by rw [w1 i (Or.inr hi)]; unfold swF; rw [sup_n (by omega), sup_n (by omega)])
      refine z_iload K dX3_advance_107 rfl ?_
      refine z_iload K dX3_advance_109 rfl ?_
      refine j_icmp_ge (tgt := 155) K dX3_advance_111 rfl (by omega) (by omega) (fun c_111 => ?_) (fun c_111 => ?_)
      · refine j_iconst K dX3_advance_155 ?_
        exact z_zret K (iI_b (by omega)) (by omega) (by omega) (hfin) dX3_advance_156
      · exact absurd c_111 (by omega)
    | succ m ih =>
      intro a e w a1 a2 a3 a4 a5 hPw w1 w2 w3 w4 env he
      refine zW.cut he ?_
      have hfin := fun (hz : e ≤ a) => q1 w hPw ⟨p, q, hpq, hqn, hfpq, hdesc, hsm, fun i hi => by rw [w1 i (by omega)]; unfold swF; rw [sup_n (by omega), sup_n (by omega)], by rw [w1 p (by omega)]; unfold swF; rw [sup_n (by omega), sup_s], fun i i1 i2 => by
        rcases (by omega : i < a ∨ e < i ∨ (i = a ∧ i = e)) with z | z | ⟨z1, z2⟩
        · exact w3 i i1 z
        · exact w4 i z i2
        · rw [w2 i (by omega) (by omega), show n + p - i = i by omega]⟩ (fun i hi => by rw [w1 i (Or.inr hi)]; unfold swF; rw [sup_n (by omega), sup_n (by omega)])
      have hw1 := fun (hz : a < e) => w2 a (by omega) (by omega)
      have hw2 := fun (hz : a < e) => w2 e (by omega) (by omega)
      have nx := fun (hz : a < e) => ih (a + 1) (e - 1) (swF w a e) (by omega) (by omega) (by omega) (by omega) (by omega) (hPx w a e hPw hz (by omega)) (fun x hx => by
          rw [← w1 x hx]; unfold swF; rw [sup_n (by omega), sup_n (by omega)]) (fun x x1 x2 => by
          rw [← w2 x (by omega) (by omega)]
          show swF w a e x = w x
          unfold swF; rw [sup_n (by omega), sup_n (by omega)]) (fun x x1 x2 => by
          rcases (by omega : x < a ∨ x = a) with z | z
          · rw [← w3 x x1 z]; show swF w a e x = w x; unfold swF; rw [sup_n (by omega), sup_n (by omega)]
          · rw [z, show n + p - a = e by omega, ← w2 e (by omega) (by omega)]; show swF w a e a = w e; unfold swF; rw [sup_n (by omega), sup_s]) (fun x x1 x2 => by
          rcases (by omega : e < x ∨ x = e) with z | z
          · rw [← w4 x z x2]; show swF w a e x = w x; unfold swF; rw [sup_n (by omega), sup_n (by omega)]
          · rw [z, show n + p - e = a by omega, ← w2 a (by omega) (by omega)]; show swF w a e e = w a; unfold swF; rw [sup_s])
      refine z_iload K dX3_advance_107 rfl ?_
      refine z_iload K dX3_advance_109 rfl ?_
      refine j_icmp_ge (tgt := 155) K dX3_advance_111 rfl (by omega) (by omega) (fun c_111 => ?_) (fun c_111 => ?_)
      · refine j_iconst K dX3_advance_155 ?_
        exact z_zret K (iI_b (by omega)) (by omega) (by omega) (hfin (by omega)) dX3_advance_156
      · refine z_aload_n K dX3_advance_114 rfl rfl rfl ?_
        refine z_get K fd_X3_9_3 (ho' _) rfl dX3_advance_115 ?_
        refine z_iload K dX3_advance_118 rfl ?_
        refine j_ild K (zup_at _ _ _) (by omega) (by omega) dX3_advance_120 ?_
        refine z_istore K dX3_advance_121 (by decide) rfl ?_
        refine z_aload_n K dX3_advance_123 rfl rfl rfl ?_
        refine z_get K fd_X3_9_3 (ho' _) rfl dX3_advance_124 ?_
        refine z_iload K dX3_advance_127 rfl ?_
        refine z_aload_n K dX3_advance_129 rfl rfl rfl ?_
        refine z_get K fd_X3_9_3 (ho' _) rfl dX3_advance_130 ?_
        refine z_iload K dX3_advance_133 rfl ?_
        refine j_ild K (zup_at _ _ _) (by omega) (by omega) dX3_advance_135 ?_
        refine j_istE K (zup_at _ _ _) (by omega) (by omega) (by omega) dX3_advance_136 (zup_zup) ?_
        refine z_aload_n K dX3_advance_137 rfl rfl rfl ?_
        refine z_get K fd_X3_9_3 (ho' _) rfl dX3_advance_138 ?_
        refine z_iload K dX3_advance_141 rfl ?_
        refine z_iload K dX3_advance_143 rfl ?_
        refine j_istE K (zup_at _ _ _) (by omega) (by omega) (by omega) dX3_advance_145 (zup_zup) ?_
        rw [show (((a : Nat) : Int)).toNat = a by omega, show (((e : Nat) : Int)).toNat = e by omega]
        refine j_iinc K dX3_advance_146 rfl (by decide) rfl ?_
        refine j_iinc K dX3_advance_149 rfl (by decide) rfl ?_
        refine z_goto (tgt := 107) K dX3_advance_152 rfl ?_
        exact nx (by omega) _ ⟨rfl, rfl, by rw [show ((e - 1 : Nat) : Int) = (e : Int) + -1 by omega]; rfl, trivial⟩
  -- the swap
  have l2 : ∀ (p : Nat), p + 1 < n → f p < f (p + 1) → (∀ i, p < i → i + 1 < n → f (i + 1) < f i) → ∀ (q : Nat), p < q → q < n → (∀ j, q < j → j < n → f j < f p) → ∀ env, zsub env [(0, .ref o), (1, .int (iI p)), (2, .int (iI q))] → zW X Q h 0 0 47 env [] := by
    intro p hpn hpl hdesc q
    induction q with
    | zero => intro hq; omega
    | succ q ih =>
      intro hpq hqn hsm env he
      refine zW.cut he ?_
      have z1 := hPr f hP p (by omega)
      have z2 := hPr f hP (q + 1) hqn
      have nx := fun (hz : f (q + 1) < f p) => ih (by
        rcases (by omega : p < q ∨ q = p) with y | y
        · exact y
        · rw [y] at hz; omega) (by omega) (fun j j1 j2 => by
        rcases (by omega : q + 1 < j ∨ j = q + 1) with y | y
        · exact hsm j y j2
        · rw [y]; exact hz)
      have go := fun (hz : f p ≤ f (q + 1)) => l3 p (q + 1) hpq hqn (by
        rcases Int.lt_or_le (f p) (f (q + 1)) with y | y
        · exact y
        · have := hPd f hP p (q + 1) (by omega) hqn (by omega); omega) hdesc hsm n (p + 1) (n - 1) (swF f p (q + 1)) (by omega) (by omega) (by omega) (by omega) (by omega) (hPx f p (q + 1) hP hpq hqn) (fun _ _ => rfl) (fun _ _ _ => rfl) (fun x x1 x2 => by omega) (fun x x1 x2 => by omega)
      clear ih
      refine z_aload_n K dX3_advance_47 rfl rfl rfl ?_
      refine z_get K fd_X3_9_3 ((by first | exact ho | exact ho' _)) rfl dX3_advance_48 ?_
      refine z_iload_n K dX3_advance_51 rfl rfl ?_
      refine j_ild K ((by first | exact hr | exact zup_at _ _ _)) (by omega) (by omega) dX3_advance_52 ?_
      rw [Int.toNat_natCast]
      refine z_aload_n K dX3_advance_53 rfl rfl rfl ?_
      refine z_get K fd_X3_9_3 ((by first | exact ho | exact ho' _)) rfl dX3_advance_54 ?_
      refine z_iload_n K dX3_advance_57 rfl rfl ?_
      refine j_ild K ((by first | exact hr | exact zup_at _ _ _)) (by omega) (by omega) dX3_advance_58 ?_
      rw [Int.toNat_natCast]
      refine j_icmp_ge (tgt := 68) K dX3_advance_59 rfl (by omega) (by omega) (fun c_59 => ?_) (fun c_59 => ?_)
      · refine z_aload_n K dX3_advance_68 rfl rfl rfl ?_
        refine z_get K fd_X3_9_3 ((by first | exact ho | exact ho' _)) rfl dX3_advance_69 ?_
        refine z_iload_n K dX3_advance_72 rfl rfl ?_
        refine j_ild K ((by first | exact hr | exact zup_at _ _ _)) (by omega) (by omega) dX3_advance_73 ?_
        rw [Int.toNat_natCast]
        refine z_istore_n K dX3_advance_74 rfl (by decide) rfl ?_
        refine z_aload_n K dX3_advance_75 rfl rfl rfl ?_
        refine z_get K fd_X3_9_3 ((by first | exact ho | exact ho' _)) rfl dX3_advance_76 ?_
        refine z_iload_n K dX3_advance_79 rfl rfl ?_
        refine z_aload_n K dX3_advance_80 rfl rfl rfl ?_
        refine z_get K fd_X3_9_3 ((by first | exact ho | exact ho' _)) rfl dX3_advance_81 ?_
        refine z_iload_n K dX3_advance_84 rfl rfl ?_
        refine j_ild K ((by first | exact hr | exact zup_at _ _ _)) (by omega) (by omega) dX3_advance_85 ?_
        refine j_istE K ((by first | exact hr | exact zup_at _ _ _)) (by omega) (by omega) (by omega) dX3_advance_86 (rfl) ?_
        refine z_aload_n K dX3_advance_87 rfl rfl rfl ?_
        refine z_get K fd_X3_9_3 ((by first | exact ho | exact ho' _)) rfl dX3_advance_88 ?_
        refine z_iload_n K dX3_advance_91 rfl rfl ?_
        refine z_iload_n K dX3_advance_92 rfl rfl ?_
        refine j_istE K ((by first | exact hr | exact zup_at _ _ _)) (by omega) (by omega) (by omega) dX3_advance_93 (zup_zup) ?_
        rw [Int.toNat_natCast, Int.toNat_natCast]
        refine z_iload_n K dX3_advance_94 rfl rfl ?_
        refine j_iconst K dX3_advance_95 ?_
        refine j_iadd K dX3_advance_96 ?_
        refine z_istore K dX3_advance_97 (by decide) rfl ?_
        refine z_aload_n K dX3_advance_99 rfl rfl rfl ?_
        refine z_get K fd_X3_15_3 ((by first | exact ho | exact ho' _)) rfl dX3_advance_100 ?_
        refine j_iconst K dX3_advance_103 ?_
        refine j_isub K dX3_advance_104 ?_
        refine z_istore K dX3_advance_105 (by decide) rfl ?_
        exact go c_59 _ ⟨rfl, rfl, by rw [show ((n - 1 : Nat) : Int) = (n : Int) - 1 by omega]; rfl, trivial⟩
      · refine j_iinc K dX3_advance_62 rfl (by decide) rfl ?_
        refine z_goto (tgt := 47) K dX3_advance_65 rfl ?_
        exact nx c_59 _ ⟨rfl, rfl, by rw [show ((q + 1 : Nat) : Int) + -1 = (q : Int) by omega]; rfl, trivial⟩
  -- the first place from behind that rises
  have l1 : ∀ (k : Nat), k < n → (∀ i, k ≤ i → i + 1 < n → f (i + 1) < f i) → ∀ env, zsub env [(0, .ref o), (1, .int (iI ((k : Int) - 1)))] → zW X Q h 0 0 7 env [] := by
    intro k
    induction k with
    | zero =>
      intro hk hdesc env he
      refine zW.cut he ?_
      refine z_iload_n K dX3_advance_7 rfl rfl ?_
      refine j_if_lt (tgt := 34) K dX3_advance_8 rfl (by omega) (fun c_8 => ?_) (fun c_8 => ?_)
      · refine z_iload_n K dX3_advance_34 rfl rfl ?_
        refine j_if_ge (tgt := 40) K dX3_advance_35 rfl (by omega) (fun c_35 => ?_) (fun c_35 => ?_)
        · exact absurd c_35 (by omega)
        · refine j_iconst K dX3_advance_38 ?_
          exact z_zret K (iI_b (by omega)) (by omega) (by omega) (q0 (fun i hi => hdesc i (by omega) hi)) dX3_advance_39
      · exact absurd c_8 (by omega)
    | succ k ih =>
      intro hk hdesc env he
      refine zW.cut he ?_
      have z1 := hPr f hP k (by omega)
      have z2 := hPr f hP (k + 1) (by omega)
      have nx := fun (hz : f (k + 1) < f k) => ih (by omega) (fun i i1 i2 => by
        rcases (by omega : k + 1 ≤ i ∨ i = k) with y | y
        · exact hdesc i y i2
        · rw [y]; exact hz)
      have go := fun (hz : f k ≤ f (k + 1)) => l2 k (by omega) (by
        rcases Int.lt_or_le (f k) (f (k + 1)) with y | y
        · exact y
        · have := hPd f hP k (k + 1) (by omega) (by omega) (by omega); omega) (fun i i1 i2 => hdesc i (by omega) i2) (n - 1) (by omega) (by omega) (fun j j1 j2 => by omega)
      clear ih
      refine z_iload_n K dX3_advance_7 rfl rfl ?_
      refine j_if_lt (tgt := 34) K dX3_advance_8 rfl (by omega) (fun c_8 => ?_) (fun c_8 => ?_)
      · exact absurd c_8 (by omega)
      · refine z_aload_n K dX3_advance_11 rfl rfl rfl ?_
        refine z_get K fd_X3_9_3 (ho) rfl dX3_advance_12 ?_
        refine z_iload_n K dX3_advance_15 rfl rfl ?_
        refine j_ild K (hr) (by omega) (by omega) dX3_advance_16 ?_
        rw [show (((k + 1 : Nat) : Int) - 1).toNat = k by omega]
        refine z_aload_n K dX3_advance_17 rfl rfl rfl ?_
        refine z_get K fd_X3_9_3 (ho) rfl dX3_advance_18 ?_
        refine z_iload_n K dX3_advance_21 rfl rfl ?_
        refine j_iconst K dX3_advance_22 ?_
        refine j_iadd K dX3_advance_23 ?_
        refine j_ild K (hr) (by omega) (by omega) dX3_advance_24 ?_
        rw [show (((k + 1 : Nat) : Int) - 1 + 1).toNat = k + 1 by omega]
        refine j_icmp_le (tgt := 34) K dX3_advance_25 rfl (by omega) (by omega) (fun c_25 => ?_) (fun c_25 => ?_)
        · refine z_iload_n K dX3_advance_34 rfl rfl ?_
          refine j_if_ge (tgt := 40) K dX3_advance_35 rfl (by omega) (fun c_35 => ?_) (fun c_35 => ?_)
          · refine z_aload_n K dX3_advance_40 rfl rfl rfl ?_
            refine z_get K fd_X3_15_3 (ho) rfl dX3_advance_41 ?_
            refine j_iconst K dX3_advance_44 ?_
            refine j_isub K dX3_advance_45 ?_
            refine z_istore_n K dX3_advance_46 rfl (by decide) rfl ?_
            exact go c_25 _ ⟨rfl, by rw [show ((k + 1 : Nat) : Int) - 1 = (k : Int) by omega]; rfl, by rw [show ((n - 1 : Nat) : Int) = (n : Int) - 1 by omega]; rfl, trivial⟩
          · exact absurd c_35 (by omega)
        · refine j_iinc K dX3_advance_28 rfl (by decide) rfl ?_
          refine z_goto (tgt := 7) K dX3_advance_31 rfl ?_
          exact nx c_25 _ ⟨rfl, by rw [show ((k + 1 : Nat) : Int) - 1 + -1 = (k : Int) - 1 by omega]; rfl, trivial⟩
  by_cases hn0 : n = 0
  · subst hn0
    refine z_aload_n K dX3_advance_0 rfl rfl rfl ?_
    refine z_get K fd_X3_15_3 (ho) rfl dX3_advance_1 ?_
    refine j_iconst K dX3_advance_4 ?_
    refine j_isub K dX3_advance_5 ?_
    refine z_istore_n K dX3_advance_6 rfl (by decide) rfl ?_
    refine z_iload_n K dX3_advance_7 rfl rfl ?_
    refine j_if_lt (tgt := 34) K dX3_advance_8 rfl (by omega) (fun c_8 => ?_) (fun c_8 => ?_)
    · refine z_iload_n K dX3_advance_34 rfl rfl ?_
      refine j_if_ge (tgt := 40) K dX3_advance_35 rfl (by omega) (fun c_35 => ?_) (fun c_35 => ?_)
      · exact absurd c_35 (by omega)
      · refine j_iconst K dX3_advance_38 ?_
        exact z_zret K (iI_b (by omega)) (by omega) (by omega) (q0 (fun i hi => by omega)) dX3_advance_39
    · exact absurd c_8 (by omega)
  · refine z_aload_n K dX3_advance_0 rfl rfl rfl ?_
    refine z_get K fd_X3_15_3 (ho) rfl dX3_advance_1 ?_
    refine j_iconst K dX3_advance_4 ?_
    refine j_isub K dX3_advance_5 ?_
    refine z_istore_n K dX3_advance_6 rfl (by decide) rfl ?_
    exact l1 (n - 1) (by omega) (fun i i1 i2 => by omega) _ ⟨rfl, by rw [show ((n - 1 : Nat) : Int) - 1 = (n : Int) - 2 by omega]; rfl, trivial⟩
end XOt

