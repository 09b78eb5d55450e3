/-! ===== Reader: operation ===== -/
section XRo
variable {h : zH} {r s V n N : Nat} {t : Nat → Int} {p : Int}
/-- what is told of an operation at p, and where it ends; or the fault -/
def opP (t : Nat → Int) (n : Nat) (p : Int) : (Int × Int × Int × Int) ⊕ Int :=
  if ¬ isD t n p then .inr p else
  if hrC t n (p + 1) ≠ 46 then .inr (p + 1) else
  if ¬ isD t n (p + 2) then .inr (p + 2) else
  if hrC t n (nmR t n (p + 2)).2 ≠ 46 then .inr (nmR t n (p + 2)).2 else
  if ¬ isD t n ((nmR t n (p + 2)).2 + 1) then .inr ((nmR t n (p + 2)).2 + 1) else
  .inl (hrC t n p - 48, (nmR t n (p + 2)).1, hrC t n ((nmR t n (p + 2)).2 + 1) - 48, (nmR t n (p + 2)).2 + 2)
def row3 (a b c : Int) : Nat → Int := fun i => if i = 0 then a else if i = 1 then b else if i = 2 then c else 0
theorem row3_ok {a b c : Int} : aI 3 (sup (sup (sup (fun _ => 0) 0 a) 1 b) 2 c) = aI 3 (row3 a b c) := by
  congr 1
  funext i
  unfold row3
  by_cases e0 : i = 2
  · subst e0; rw [sup_s]; rfl
  · rw [sup_n e0]
    by_cases e1 : i = 1
    · subst e1; rw [sup_s]; rfl
    · rw [sup_n e1]
      by_cases e2 : i = 0
      · subst e2; rw [sup_s]; rfl
      · rw [sup_n e2, if_neg e2, if_neg e1, if_neg e0]
/-- the heap while an operation is read -/
def oH (h : zH) (r s N : Nat) (f : Nat → Int) (q : Int) : zH := zup (zup h N (aI 3 f)) r (oRd s q)
theorem oH_r {f : Nat → Int} {q : Int} : oH h r s N f q r = some (oRd s q) := zup_at _ _ _
theorem oH_N {f : Nat → Int} {q : Int} (e : r < N) : oH h r s N f q N = some (aI 3 f) := (zup_ne (by omega)).trans (zup_at _ _ _)
theorem oH_q {f : Nat → Int} {q q' : Int} : zup (oH h r s N f q) r (oRd s q') = oH h r s N f q' := zup_zup
theorem oH_f {f g : Nat → Int} {q : Int} (e : r < N) : zup (oH h r s N f q) N (aI 3 g) = oH h r s N g q := by
  unfold oH
  rw [zup_comm (by omega), zup_zup]
theorem oH_0 {f : Nat → Int} (e : r < N) (hR : h r = some (oRd s p)) : zup h N (aI 3 f) = oH h r s N f p := (zup_self ((zup_ne (by omega)).trans hR)).symm
theorem oH_t {f : Nat → Int} {q : Int} {m : Nat} (hN : zTop h N) (e : r < N) (hm : N < m) : oH h r s N f q m = none := (zup_ne (by omega)).trans ((zup_ne (by omega)).trans (hN m (by omega)))
theorem oH_row {a b c q : Int} : oH h r s N (sup (sup (sup (fun _ => 0) 0 a) 1 b) 2 c) q = oH h r s N (row3 a b c) q := by unfold oH; rw [row3_ok]
theorem x13_operation (hA : Am h) (hR : h r = some (oRd s p)) (r8 : 1000 ≤ r) (rs : r ≠ s) (rV : r ≠ V) (hT : TxH h s V t n) (hp : 0 ≤ p ∧ p ≤ n) (hN : zTop h N) (N8 : 1000 ≤ N) (hrN : r < N) (hsN : s < N) (hVN : V < N) :
    zMet yX13_operation (ws_ yX13_operation cX13_operation 2 (some (.array .int))) 10 [.ref r] h (fun z h' => match opP t n p with | .inl q => z = .inl (some (.ref N)) ∧ h' = oH h r s N (row3 q.1 q.2.1 q.2.2.1) q.2.2.2 | .inr q => z = .inr (N + 1) ∧ ∃ f, h' = tfH (oH h r s N f q) (N + 1) (N + 2) q) 3 18 := by
  obtain ⟨n9, ht⟩ := hT.r
  have aH : ∀ f q, Am (oH h r s N f q) := fun f q => (hA.up N8).up r8
  have tH9 : ∀ f q, TxH (oH h r s N f q) s V t n := fun f q => (hT.up (by omega) (by omega)).up rs.symm rV.symm
  have T1 : ∀ f q, oH h r s N f q (N + 1) = none := fun f q => oH_t hN hrN (by omega)
  have T2 : ∀ f q, oH h r s N f q (N + 1 + 1) = none := fun f q => oH_t hN hrN (by omega)
  have dY : ∀ (f : Nat → Int) (q : Int), 0 ≤ q ∧ q ≤ n → isD t n q → zMet yX13_digit (ws_ yX13_digit cX13_digit 1 (some .int)) 8 [.ref r] (oH h r s N f q) (zRet (.int (iI (hrC t n q - 48))) (oH h r s N f (q + 1))) 0 0 := fun f q hq e => by
    have := x13_digitY (aH f q) oH_r r8 rs rV (tH9 f q) hq e
    rw [oH_q] at this
    exact this
  have mY : ∀ (f : Nat → Int) (q c : Int), 0 ≤ q ∧ q ≤ n → 0 ≤ c ∧ c < 65536 → hrC t n q = c → zMet yX13_must (ws_ yX13_must cX13_must 2 none) 8 [.ref r, .int (iI c)] (oH h r s N f q) (zVd (oH h r s N f (q + 1))) 0 0 := fun f q c hq hc e => by
    have := x13_mustY (aH f q) oH_r r8 (tH9 f q) hq hc e
    rw [oH_q] at this
    exact this
  have nY : ∀ (f : Nat → Int) (q : Int), 0 ≤ q ∧ q ≤ n → isD t n q → zMet yX13_number (ws_ yX13_number cX13_number 3 (some .int)) 9 [.ref r] (oH h r s N f q) (zRet (.int (iI (nmR t n q).1)) (oH h r s N f (nmR t n q).2)) 0 0 := fun f q hq e => by
    have := x13_numberY (aH f q) oH_r r8 rs rV (tH9 f q) hq e
    rw [oH_q] at this
    exact this
  have dN := fun (f : Nat → Int) (q : Int) hq e => x13_digitN (N := N + 1) (aH f q) oH_r r8 rs rV (tH9 f q) hq e (T1 f q) (T2 f q) (by omega)
  have mN := fun (f : Nat → Int) (q c : Int) hq hc e => x13_mustN (c := c) (N := N + 1) (aH f q) oH_r r8 (tH9 f q) hq hc e (T1 f q) (T2 f q) (by omega)
  have nN := fun (f : Nat → Int) (q : Int) hq e => x13_numberN (N := N + 1) (aH f q) oH_r r8 rs rV (tH9 f q) hq e (T1 f q) (T2 f q) (by omega)
  have hfN := hN N (Nat.le_refl _)
  refine zMet.of (by decide) (Nat.le_of_ble_eq_true rfl) fun X K => ?_
  by_cases d0 : isD t n p
  rotate_left
  · have eo : opP t n p = .inr p := by unfold opP; rw [if_pos d0]
    refine j_iconst K dX13_operation_0 ?_
    refine z_newi K (N) (by omega) (by omega) hfN (by omega) (by omega) (by omega) dX13_operation_1 ?_
    rw [show ((3 : Int).toNat) = 3 from rfl, aI_zero, oH_0 hrN hR]
    refine z_astore_n K dX13_operation_3 rfl rfl (by decide) rfl ?_
    refine z_aload_n K dX13_operation_4 rfl rfl rfl ?_
    refine j_iconst K dX13_operation_5 ?_
    refine z_aload_n K dX13_operation_6 rfl rfl rfl ?_
    refine z_callV K (dN _ p (by omega) d0) cV_X13_45_X13 oH_r rfl rfl rfl (by omega) (by omega) (by omega) (Nat.le_of_ble_eq_true rfl) dX13_operation_7 (fun q h1 hq => ?_) (fun v h1 hv => by cases hv.1)
    obtain ⟨e1, e2⟩ := hq
    cases e1
    refine z_out K rfl (by omega) (by omega) ?_
    rw [eo]
    exact ⟨rfl, _, e2⟩
  have l0 := isD.lt (t := t) (n := n) d0
  by_cases d1 : hrC t n (p + 1) = 46
  rotate_left
  · have eo : opP t n p = .inr (p + 1) := by unfold opP; rw [if_neg (not_not_intro d0), if_pos d1]
    refine j_iconst K dX13_operation_0 ?_
    refine z_newi K (N) (by omega) (by omega) hfN (by omega) (by omega) (by omega) dX13_operation_1 ?_
    rw [show ((3 : Int).toNat) = 3 from rfl, aI_zero, oH_0 hrN hR]
    refine z_astore_n K dX13_operation_3 rfl rfl (by decide) rfl ?_
    refine z_aload_n K dX13_operation_4 rfl rfl rfl ?_
    refine j_iconst K dX13_operation_5 ?_
    refine z_aload_n K dX13_operation_6 rfl rfl rfl ?_
    refine z_callV K (dY _ p (by omega) d0) cV_X13_45_X13 (oH_r) rfl rfl rfl (by omega) (by omega) (by omega) (Nat.le_of_ble_eq_true rfl) dX13_operation_7 zrX (zrK ?_)
    refine j_istE K (oH_N hrN) N8 (by omega) (by omega) dX13_operation_10 (oH_f hrN) ?_
    refine z_aload_n K dX13_operation_11 rfl rfl rfl ?_
    refine j_bipush K dX13_operation_12 (by decide +kernel) ?_
    refine z_callV K (mN _ (p + 1) 46 (by omega) (by omega) d1) cV_X13_48_X13 oH_r rfl rfl rfl (by omega) (by omega) (by omega) (Nat.le_of_ble_eq_true rfl) dX13_operation_14 (fun q h1 hq => ?_) (fun v h1 hv => by cases hv.1)
    obtain ⟨e1, e2⟩ := hq
    cases e1
    refine z_out K rfl (by omega) (by omega) ?_
    rw [eo]
    exact ⟨rfl, _, e2⟩
  have l1 := hrC.lt d1 (by decide)
  by_cases d2 : isD t n (p + 2)
  rotate_left
  · have eo : opP t n p = .inr (p + 2) := by unfold opP; rw [if_neg (not_not_intro d0), if_neg (not_not_intro d1), if_pos d2]
    refine j_iconst K dX13_operation_0 ?_
    refine z_newi K (N) (by omega) (by omega) hfN (by omega) (by omega) (by omega) dX13_operation_1 ?_
    rw [show ((3 : Int).toNat) = 3 from rfl, aI_zero, oH_0 hrN hR]
    refine z_astore_n K dX13_operation_3 rfl rfl (by decide) rfl ?_
    refine z_aload_n K dX13_operation_4 rfl rfl rfl ?_
    refine j_iconst K dX13_operation_5 ?_
    refine z_aload_n K dX13_operation_6 rfl rfl rfl ?_
    refine z_callV K (dY _ p (by omega) d0) cV_X13_45_X13 (oH_r) rfl rfl rfl (by omega) (by omega) (by omega) (Nat.le_of_ble_eq_true rfl) dX13_operation_7 zrX (zrK ?_)
    refine j_istE K (oH_N hrN) N8 (by omega) (by omega) dX13_operation_10 (oH_f hrN) ?_
    refine z_aload_n K dX13_operation_11 rfl rfl rfl ?_
    refine j_bipush K dX13_operation_12 (by decide +kernel) ?_
    refine z_callV K (mY _ (p + 1) 46 (by omega) (by omega) d1) cV_X13_48_X13 (oH_r) rfl rfl rfl (by omega) (by omega) (by omega) (Nat.le_of_ble_eq_true rfl) dX13_operation_14 zvX (zvK ?_)
    rw [show p + 1 + 1 = p + 2 by omega]
    refine z_aload_n K dX13_operation_17 rfl rfl rfl ?_
    refine j_iconst K dX13_operation_18 ?_
    refine z_aload_n K dX13_operation_19 rfl rfl rfl ?_
    refine z_callV K (nN _ (p + 2) (by omega) d2) cV_X13_51_X13 oH_r rfl rfl rfl (by omega) (by omega) (by omega) (Nat.le_of_ble_eq_true rfl) dX13_operation_20 (fun q h1 hq => ?_) (fun v h1 hv => by cases hv.1)
    obtain ⟨e1, e2⟩ := hq
    cases e1
    refine z_out K rfl (by omega) (by omega) ?_
    rw [eo]
    exact ⟨rfl, _, e2⟩
  have l2 := isD.lt (t := t) (n := n) d2
  have lq := nmL_p (t := t) (n := n) 2 (hrC t n (p + 2) - 48) (p + 2 + 1) (by omega)
  change p + 2 + 1 ≤ (nmR t n (p + 2)).2 ∧ (nmR t n (p + 2)).2 ≤ n at lq
  by_cases d3 : hrC t n (nmR t n (p + 2)).2 = 46
  rotate_left
  · have eo : opP t n p = .inr (nmR t n (p + 2)).2 := by unfold opP; rw [if_neg (not_not_intro d0), if_neg (not_not_intro d1), if_neg (not_not_intro d2), if_pos d3]
    refine j_iconst K dX13_operation_0 ?_
    refine z_newi K (N) (by omega) (by omega) hfN (by omega) (by omega) (by omega) dX13_operation_1 ?_
    rw [show ((3 : Int).toNat) = 3 from rfl, aI_zero, oH_0 hrN hR]
    refine z_astore_n K dX13_operation_3 rfl rfl (by decide) rfl ?_
    refine z_aload_n K dX13_operation_4 rfl rfl rfl ?_
    refine j_iconst K dX13_operation_5 ?_
    refine z_aload_n K dX13_operation_6 rfl rfl rfl ?_
    refine z_callV K (dY _ p (by omega) d0) cV_X13_45_X13 (oH_r) rfl rfl rfl (by omega) (by omega) (by omega) (Nat.le_of_ble_eq_true rfl) dX13_operation_7 zrX (zrK ?_)
    refine j_istE K (oH_N hrN) N8 (by omega) (by omega) dX13_operation_10 (oH_f hrN) ?_
    refine z_aload_n K dX13_operation_11 rfl rfl rfl ?_
    refine j_bipush K dX13_operation_12 (by decide +kernel) ?_
    refine z_callV K (mY _ (p + 1) 46 (by omega) (by omega) d1) cV_X13_48_X13 (oH_r) rfl rfl rfl (by omega) (by omega) (by omega) (Nat.le_of_ble_eq_true rfl) dX13_operation_14 zvX (zvK ?_)
    rw [show p + 1 + 1 = p + 2 by omega]
    refine z_aload_n K dX13_operation_17 rfl rfl rfl ?_
    refine j_iconst K dX13_operation_18 ?_
    refine z_aload_n K dX13_operation_19 rfl rfl rfl ?_
    refine z_callV K (nY _ (p + 2) (by omega) d2) cV_X13_51_X13 (oH_r) rfl rfl rfl (by omega) (by omega) (by omega) (Nat.le_of_ble_eq_true rfl) dX13_operation_20 zrX (zrK ?_)
    refine j_istE K (oH_N hrN) N8 (by omega) (by omega) dX13_operation_23 (oH_f hrN) ?_
    refine z_aload_n K dX13_operation_24 rfl rfl rfl ?_
    refine j_bipush K dX13_operation_25 (by decide +kernel) ?_
    refine z_callV K (mN _ (nmR t n (p + 2)).2 46 (by omega) (by omega) d3) cV_X13_48_X13 oH_r rfl rfl rfl (by omega) (by omega) (by omega) (Nat.le_of_ble_eq_true rfl) dX13_operation_27 (fun q h1 hq => ?_) (fun v h1 hv => by cases hv.1)
    obtain ⟨e1, e2⟩ := hq
    cases e1
    refine z_out K rfl (by omega) (by omega) ?_
    rw [eo]
    exact ⟨rfl, _, e2⟩
  have l3 := hrC.lt d3 (by decide)
  by_cases d4 : isD t n ((nmR t n (p + 2)).2 + 1)
  rotate_left
  · have eo : opP t n p = .inr ((nmR t n (p + 2)).2 + 1) := by unfold opP; rw [if_neg (not_not_intro d0), if_neg (not_not_intro d1), if_neg (not_not_intro d2), if_neg (not_not_intro d3), if_pos d4]
    refine j_iconst K dX13_operation_0 ?_
    refine z_newi K (N) (by omega) (by omega) hfN (by omega) (by omega) (by omega) dX13_operation_1 ?_
    rw [show ((3 : Int).toNat) = 3 from rfl, aI_zero, oH_0 hrN hR]
    refine z_astore_n K dX13_operation_3 rfl rfl (by decide) rfl ?_
    refine z_aload_n K dX13_operation_4 rfl rfl rfl ?_
    refine j_iconst K dX13_operation_5 ?_
    refine z_aload_n K dX13_operation_6 rfl rfl rfl ?_
    refine z_callV K (dY _ p (by omega) d0) cV_X13_45_X13 (oH_r) rfl rfl rfl (by omega) (by omega) (by omega) (Nat.le_of_ble_eq_true rfl) dX13_operation_7 zrX (zrK ?_)
    refine j_istE K (oH_N hrN) N8 (by omega) (by omega) dX13_operation_10 (oH_f hrN) ?_
    refine z_aload_n K dX13_operation_11 rfl rfl rfl ?_
    refine j_bipush K dX13_operation_12 (by decide +kernel) ?_
    refine z_callV K (mY _ (p + 1) 46 (by omega) (by omega) d1) cV_X13_48_X13 (oH_r) rfl rfl rfl (by omega) (by omega) (by omega) (Nat.le_of_ble_eq_true rfl) dX13_operation_14 zvX (zvK ?_)
    rw [show p + 1 + 1 = p + 2 by omega]
    refine z_aload_n K dX13_operation_17 rfl rfl rfl ?_
    refine j_iconst K dX13_operation_18 ?_
    refine z_aload_n K dX13_operation_19 rfl rfl rfl ?_
    refine z_callV K (nY _ (p + 2) (by omega) d2) cV_X13_51_X13 (oH_r) rfl rfl rfl (by omega) (by omega) (by omega) (Nat.le_of_ble_eq_true rfl) dX13_operation_20 zrX (zrK ?_)
    refine j_istE K (oH_N hrN) N8 (by omega) (by omega) dX13_operation_23 (oH_f hrN) ?_
    refine z_aload_n K dX13_operation_24 rfl rfl rfl ?_
    refine j_bipush K dX13_operation_25 (by decide +kernel) ?_
    refine z_callV K (mY _ (nmR t n (p + 2)).2 46 (by omega) (by omega) d3) cV_X13_48_X13 (oH_r) rfl rfl rfl (by omega) (by omega) (by omega) (Nat.le_of_ble_eq_true rfl) dX13_operation_27 zvX (zvK ?_)
    refine z_aload_n K dX13_operation_30 rfl rfl rfl ?_
    refine j_iconst K dX13_operation_31 ?_
    refine z_aload_n K dX13_operation_32 rfl rfl rfl ?_
    refine z_callV K (dN _ ((nmR t n (p + 2)).2 + 1) (by omega) d4) cV_X13_45_X13 oH_r rfl rfl rfl (by omega) (by omega) (by omega) (Nat.le_of_ble_eq_true rfl) dX13_operation_33 (fun q h1 hq => ?_) (fun v h1 hv => by cases hv.1)
    obtain ⟨e1, e2⟩ := hq
    cases e1
    refine z_out K rfl (by omega) (by omega) ?_
    rw [eo]
    exact ⟨rfl, _, e2⟩
  have l4 := isD.lt (t := t) (n := n) d4
  have eo : opP t n p = .inl (hrC t n p - 48, (nmR t n (p + 2)).1, hrC t n ((nmR t n (p + 2)).2 + 1) - 48, (nmR t n (p + 2)).2 + 2) := by unfold opP; rw [if_neg (not_not_intro d0), if_neg (not_not_intro d1), if_neg (not_not_intro d2), if_neg (not_not_intro d3), if_neg (not_not_intro d4)]
  refine j_iconst K dX13_operation_0 ?_
  refine z_newi K (N) (by omega) (by omega) hfN (by omega) (by omega) (by omega) dX13_operation_1 ?_
  rw [show ((3 : Int).toNat) = 3 from rfl, aI_zero, oH_0 hrN hR]
  refine z_astore_n K dX13_operation_3 rfl rfl (by decide) rfl ?_
  refine z_aload_n K dX13_operation_4 rfl rfl rfl ?_
  refine j_iconst K dX13_operation_5 ?_
  refine z_aload_n K dX13_operation_6 rfl rfl rfl ?_
  refine z_callV K (dY _ p (by omega) d0) cV_X13_45_X13 (oH_r) rfl rfl rfl (by omega) (by omega) (by omega) (Nat.le_of_ble_eq_true rfl) dX13_operation_7 zrX (zrK ?_)
  refine j_istE K (oH_N hrN) N8 (by omega) (by omega) dX13_operation_10 (oH_f hrN) ?_
  refine z_aload_n K dX13_operation_11 rfl rfl rfl ?_
  refine j_bipush K dX13_operation_12 (by decide +kernel) ?_
  refine z_callV K (mY _ (p + 1) 46 (by omega) (by omega) d1) cV_X13_48_X13 (oH_r) rfl rfl rfl (by omega) (by omega) (by omega) (Nat.le_of_ble_eq_true rfl) dX13_operation_14 zvX (zvK ?_)
  rw [show p + 1 + 1 = p + 2 by omega]
  refine z_aload_n K dX13_operation_17 rfl rfl rfl ?_
  refine j_iconst K dX13_operation_18 ?_
  refine z_aload_n K dX13_operation_19 rfl rfl rfl ?_
  refine z_callV K (nY _ (p + 2) (by omega) d2) cV_X13_51_X13 (oH_r) rfl rfl rfl (by omega) (by omega) (by omega) (Nat.le_of_ble_eq_true rfl) dX13_operation_20 zrX (zrK ?_)
  refine j_istE K (oH_N hrN) N8 (by omega) (by omega) dX13_operation_23 (oH_f hrN) ?_
  refine z_aload_n K dX13_operation_24 rfl rfl rfl ?_
  refine j_bipush K dX13_operation_25 (by decide +kernel) ?_
  refine z_callV K (mY _ (nmR t n (p + 2)).2 46 (by omega) (by omega) d3) cV_X13_48_X13 (oH_r) rfl rfl rfl (by omega) (by omega) (by omega) (Nat.le_of_ble_eq_true rfl) dX13_operation_27 zvX (zvK ?_)
  refine z_aload_n K dX13_operation_30 rfl rfl rfl ?_
  refine j_iconst K dX13_operation_31 ?_
  refine z_aload_n K dX13_operation_32 rfl rfl rfl ?_
  refine z_callV K (dY _ ((nmR t n (p + 2)).2 + 1) (by omega) d4) cV_X13_45_X13 (oH_r) rfl rfl rfl (by omega) (by omega) (by omega) (Nat.le_of_ble_eq_true rfl) dX13_operation_33 zrX (zrK ?_)
  refine j_istE K (oH_N hrN) N8 (by omega) (by omega) dX13_operation_36 (oH_f hrN) ?_
  refine z_aload_n K dX13_operation_37 rfl rfl rfl ?_
  exact z_aret K (by simp) rfl (by omega) (by omega) (by rw [eo]; exact ⟨rfl, (oH_row (q := (nmR t n (p + 2)).2 + 1 + 1)).trans (congrArg (oH h r s N _) (show (nmR t n (p + 2)).2 + 1 + 1 = (nmR t n (p + 2)).2 + 2 by omega))⟩) dX13_operation_38
end XRo

