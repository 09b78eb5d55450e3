/-! ===== Reader: here, skip, must, digit, number ===== -/
/-- a String at s with the chars t -/
def TxH (h : zH) (s V : Nat) (t : Nat → Int) (n : Nat) : Prop := ∃ (N : Nat) (c : Int) (f : Nat → Int), h s = some (oStr V c) ∧ h V = some (aB N f) ∧ N < 1000 ∧ tcs c N f t n ∧ ((c = 0 ∧ N = n) ∨ (c = 1 ∧ N = 2 * n))
theorem TxH.up {h : zH} {s V m : Nat} {t : Nat → Int} {n : Nat} {c : zC} (H : TxH h s V t n) (h1 : s ≠ m) (h2 : V ≠ m) : TxH (zup h m c) s V t n := by
  obtain ⟨N, c0, f, a1, a2, a3⟩ := H
  exact ⟨N, c0, f, (zup_ne h1).trans a1, (zup_ne h2).trans a2, a3⟩
theorem TxH.len {h : zH} {s V : Nat} {t : Nat → Int} {n : Nat} (H : TxH h s V t n) : zMet yJ8_length (ws_ yJ8_length cJ8_length 1 (some .int)) 2 [.ref s] h (zRet (.int (iI n)) h) 0 0 := by
  obtain ⟨N, c0, f, a1, a2, a3, a4, a5⟩ := H
  exact jS_length (t := t) a1 a2 a3 a5
theorem TxH.at {h : zH} {s V : Nat} {t : Nat → Int} {n : Nat} {i : Int} (hA : Am h) (H : TxH h s V t n) (h0 : 0 ≤ i) (h1 : i < n) : zMet yJ8_charAt (ws_ yJ8_charAt cJ8_charAt 2 (some .char)) 5 [.ref s, .int (iI i)] h (zRet (.int (iI (t i.toNat))) h) 0 0 := by
  obtain ⟨N, c0, f, a1, a2, a3, a4, a5⟩ := H
  exact jS_charAt hA a1 a2 a3 a4 h0 h1
theorem TxH.r {h : zH} {s V : Nat} {t : Nat → Int} {n : Nat} (H : TxH h s V t n) : n < 1000 ∧ ∀ i, i < n → 0 ≤ t i ∧ t i < 65536 := by
  obtain ⟨N, c0, f, a1, a2, a3, a4, a5⟩ := H
  exact ⟨by omega, a4.1⟩
theorem TxH.cls {h : zH} {s V : Nat} {t : Nat → Int} {n : Nat} (H : TxH h s V t n) : ∃ c0, h s = some (oStr V c0) := by
  obtain ⟨N, c0, f, a1, -⟩ := H
  exact ⟨c0, a1⟩
def hrC (t : Nat → Int) (n : Nat) (p : Int) : Int := if p < n then t p.toNat else -1
theorem hrC_r {t : Nat → Int} {n : Nat} {p : Int} (ht : ∀ i, i < n → 0 ≤ t i ∧ t i < 65536) (h0 : 0 ≤ p) : -1 ≤ hrC t n p ∧ hrC t n p < 65536 := by
  unfold hrC
  split
  · have := ht p.toNat (by omega); omega
  · omega
abbrev oRd (s : Nat) (p : Int) : zC := .inr (12, [.ref s, .int (iI p)])
section XRd
variable {h : zH} {r s V n : Nat} {t : Nat → Int} {p : Int}
theorem x13_here (hA : Am h) (hR : h r = some (oRd s p)) (hT : TxH h s V t n) (hp : 0 ≤ p ∧ p ≤ n) : zMet yX13_here (ws_ yX13_here cX13_here 1 (some .int)) 6 [.ref r] h (zRet (.int (iI (hrC t n p))) h) 0 0 := by
  obtain ⟨n9, ht⟩ := hT.r
  obtain ⟨cs, hs⟩ := hT.cls
  have k1 := hT.len
  refine zMet.of (by decide) (Nat.le_of_ble_eq_true rfl) fun X K => ?_
  refine z_aload_n K dX13_here_0 rfl rfl rfl ?_
  refine z_get K fd_X13_15_12 (hR) rfl dX13_here_1 ?_
  refine z_aload_n K dX13_here_4 rfl rfl rfl ?_
  refine z_get K fd_X13_9_12 (hR) rfl dX13_here_5 ?_
  refine z_callV K (k1) cV_X13_19_J8 (hs) rfl rfl rfl (by omega) (by omega) (by omega) (Nat.le_of_ble_eq_true rfl) dX13_here_8 zrX (zrK ?_)
  refine j_icmp_ge (tgt := 28) K dX13_here_11 rfl (by omega) (by omega) (fun c_11 => ?_) (fun c_11 => ?_)
  · have e : hrC t n p = -1 := if_neg (by omega)
    refine j_iconst K dX13_here_28 ?_
    exact z_iret K (by omega) (by omega) (⟨by rw [e], rfl⟩) dX13_here_29
  · have e : hrC t n p = t p.toNat := if_pos (by omega)
    refine z_aload_n K dX13_here_14 rfl rfl rfl ?_
    refine z_get K fd_X13_9_12 (hR) rfl dX13_here_15 ?_
    refine z_aload_n K dX13_here_18 rfl rfl rfl ?_
    refine z_get K fd_X13_15_12 (hR) rfl dX13_here_19 ?_
    refine z_callV K (TxH.at hA hT hp.1 (by omega)) cV_X13_25_J8 (hs) rfl rfl rfl (by omega) (by omega) (by omega) (Nat.le_of_ble_eq_true rfl) dX13_here_22 zrX (zrK ?_)
    refine z_goto (tgt := 29) K dX13_here_25 rfl ?_
    exact z_iret K (by omega) (by omega) (⟨by rw [e], rfl⟩) dX13_here_29
theorem x13_skip {c : Int} (hA : Am h) (hR : h r = some (oRd s p)) (r8 : 1000 ≤ r) (hT : TxH h s V t n) (hp : 0 ≤ p ∧ p ≤ n) (hc : 0 ≤ c ∧ c < 65536) : zMet yX13_skip (ws_ yX13_skip cX13_skip 2 (some .boolean)) 7 [.ref r, .int (iI c)] h (zRet (.int (iI (bI (hrC t n p = c)))) (zup h r (oRd s (p + bI (hrC t n p = c))))) 0 0 := by
  obtain ⟨n9, ht⟩ := hT.r
  have hr := hrC_r (n := n) ht hp.1
  have k1 := x13_here hA hR hT hp
  refine zMet.of (by decide) (Nat.le_of_ble_eq_true rfl) fun X K => ?_
  refine z_aload_n K dX13_skip_0 rfl rfl rfl ?_
  refine z_callV K (k1) cV_X13_29_X13 (hR) rfl rfl rfl (by omega) (by omega) (by omega) (Nat.le_of_ble_eq_true rfl) dX13_skip_1 zrX (zrK ?_)
  refine z_iload_n K dX13_skip_4 rfl rfl ?_
  refine j_icmp_eq (tgt := 10) K dX13_skip_5 rfl (by omega) (by omega) (fun c_5 => ?_) (fun c_5 => ?_)
  · have e : bI (hrC t n p = c) = 1 := if_pos c_5
    refine z_aload_n K dX13_skip_10 rfl rfl rfl ?_
    refine z_dup K dX13_skip_11 rfl ?_
    refine z_get K fd_X13_15_12 (hR) rfl dX13_skip_12 ?_
    refine j_iconst K dX13_skip_15 ?_
    refine j_iadd K dX13_skip_16 ?_
    refine z_putE K fd_X13_15_12 ⟨_, rfl, Or.inl rfl⟩ (hR) (by omega) (Nat.le_of_ble_eq_true rfl) (zf_i) dX13_skip_17 (rfl) ?_
    refine j_iconst K dX13_skip_20 ?_
    exact z_zret K (iI_b (by omega)) (by omega) (by omega) (⟨by rw [e], by rw [e]; rfl⟩) dX13_skip_21
  · have e : bI (hrC t n p = c) = 0 := if_neg c_5
    refine j_iconst K dX13_skip_8 ?_
    exact z_zret K (iI_b (by omega)) (by omega) (by omega) (⟨by rw [e], by rw [e, Int.add_zero, zup_self hR]⟩) dX13_skip_9
/-- a fault of the text at p -/
def tfH (h : zH) (q a : Nat) (p : Int) : zH := zup (zup h a (f7 h (.ref a) (100 + p))) q (f14 h (.ref a) 2 p)
theorem tfH_eq {c0 : zC} {q a : Nat} {p : Int} (q8 : 1000 ≤ q) : zup (zup (zup h q c0) a (f7 (zup h q c0) (.ref a) (100 + p))) q (f14 (zup h q c0) (.ref a) 2 p) = tfH h q a p := by
  unfold tfH f7 f14
  rw [thL_up q8, thL_up q8]
  funext j
  by_cases e : j = q
  · subst e; rw [zup_at, zup_at]
  · rw [zup_ne e, zup_ne e]
    by_cases e2 : j = a
    · subst e2; rw [zup_at, zup_at]
    · rw [zup_ne e2, zup_ne e2, zup_ne e]
theorem x1_in {x a b : Int} (hx : -100000 ≤ x ∧ x ≤ 2147483647) (ha : -100000 ≤ a ∧ a ≤ 100000) (hb : -100000 ≤ b ∧ b ≤ 100000) : zMet yX1_in (ws_ yX1_in cX1_in 3 (some .boolean)) 1 [.int (iI x), .int (iI a), .int (iI b)] h (zRet (.int (iI (bI (a ≤ x ∧ x ≤ b)))) h) 0 0 := by
  refine zMet.of (by decide) (Nat.le_of_ble_eq_true rfl) fun X K => ?_
  refine z_iload_n K dX1_in_0 rfl rfl ?_
  refine z_iload_n K dX1_in_1 rfl rfl ?_
  refine j_icmp_lt (tgt := 14) K dX1_in_2 rfl (by omega) (by omega) (fun c_2 => ?_) (fun c_2 => ?_)
  · have e : bI (a ≤ x ∧ x ≤ b) = 0 := if_neg (by omega)
    refine j_iconst K dX1_in_14 ?_
    exact z_zret K (iI_b (by omega)) (by omega) (by omega) (⟨by rw [e], rfl⟩) dX1_in_15
  · refine z_iload_n K dX1_in_5 rfl rfl ?_
    refine z_iload_n K dX1_in_6 rfl rfl ?_
    refine j_icmp_gt (tgt := 14) K dX1_in_7 rfl (by omega) (by omega) (fun c_7 => ?_) (fun c_7 => ?_)
    · have e : bI (a ≤ x ∧ x ≤ b) = 0 := if_neg (by omega)
      refine j_iconst K dX1_in_14 ?_
      exact z_zret K (iI_b (by omega)) (by omega) (by omega) (⟨by rw [e], rfl⟩) dX1_in_15
    · have e : bI (a ≤ x ∧ x ≤ b) = 1 := if_pos (by omega)
      refine j_iconst K dX1_in_10 ?_
      refine z_goto (tgt := 15) K dX1_in_11 rfl ?_
      exact z_zret K (iI_b (by omega)) (by omega) (by omega) (⟨by rw [e], rfl⟩) dX1_in_15
theorem x13_mustY {c : Int} (hA : Am h) (hR : h r = some (oRd s p)) (r8 : 1000 ≤ r) (hT : TxH h s V t n) (hp : 0 ≤ p ∧ p ≤ n) (hc : 0 ≤ c ∧ c < 65536) (e : hrC t n p = c) : zMet yX13_must (ws_ yX13_must cX13_must 2 none) 8 [.ref r, .int (iI c)] h (zVd (zup h r (oRd s (p + 1)))) 0 0 := by
  have k1 := x13_skip hA hR r8 hT hp hc
  rw [show bI (hrC t n p = c) = 1 from if_pos e] at k1
  refine zMet.of (by decide) (Nat.le_of_ble_eq_true rfl) fun X K => ?_
  refine z_aload_n K dX13_must_0 rfl rfl rfl ?_
  refine z_iload_n K dX13_must_1 rfl rfl ?_
  refine z_callV K (k1) cV_X13_32_X13 (hR) rfl rfl rfl (by omega) (by omega) (by omega) (Nat.le_of_ble_eq_true rfl) dX13_must_2 zrX (zrK ?_)
  refine j_if_ne (tgt := 20) K dX13_must_5 rfl (by omega) (fun c_5 => ?_) (fun c_5 => ?_)
  · exact z_vret K (by omega) (by omega) (⟨rfl, rfl⟩) dX13_must_20
  · exact absurd c_5 (by decide)
theorem x13_mustN {c : Int} {N : Nat} (hA : Am h) (hR : h r = some (oRd s p)) (r8 : 1000 ≤ r) (hT : TxH h s V t n) (hp : 0 ≤ p ∧ p ≤ n) (hc : 0 ≤ c ∧ c < 65536) (e : hrC t n p ≠ c) (hN : h N = none) (hN1 : h (N + 1) = none) (N8 : 1000 ≤ N) : zMet yX13_must (ws_ yX13_must cX13_must 2 none) 8 [.ref r, .int (iI c)] h (fun z h' => z = .inr N ∧ h' = tfH h N (N + 1) p) 2 15 := by
  have k1 := x13_skip hA hR r8 hT hp hc
  have hrN : r ≠ N := fun e => by rw [e, hN] at hR; cases hR
  rw [show bI (hrC t n p = c) = 0 from if_neg e, Int.add_zero, zup_self hR] at k1
  have k2 := x15_init (h := zup h N (.inr (14, [.null, .null, .null, .null, .null, .int 0, .int 0, .int 0]))) (q := N) (a := N + 1) (ps := p) (hA.up N8) (zup_at _ _ _) ((zup_ne (by omega)).trans hN1) N8 (by omega)
  refine zMet.of (by decide) (Nat.le_of_ble_eq_true rfl) fun X K => ?_
  refine z_aload_n K dX13_must_0 rfl rfl rfl ?_
  refine z_iload_n K dX13_must_1 rfl rfl ?_
  refine z_callV K (k1) cV_X13_32_X13 (by first | exact hR | exact (zup_ne hrN).trans hR) rfl rfl rfl (by omega) (by omega) (by omega) (Nat.le_of_ble_eq_true rfl) dX13_must_2 zrX (zrK ?_)
  refine j_if_ne (tgt := 20) K dX13_must_5 rfl (by omega) (fun c_5 => ?_) (fun c_5 => ?_)
  · exact absurd rfl c_5
  · refine z_new K (N) nw_X13_36 hN (by omega) (by omega) (by omega) dX13_must_8 ?_
    refine z_dup K dX13_must_11 rfl ?_
    refine z_aload_n K dX13_must_12 rfl rfl rfl ?_
    refine z_get K fd_X13_15_12 (by first | exact hR | exact (zup_ne hrN).trans hR) rfl dX13_must_13 ?_
    refine z_cI (fs := []) K (k2) cI_X13_38 rfl rfl (by omega) (by omega) (by omega) (Nat.le_of_ble_eq_true rfl) dX13_must_16 zvX (zvK ?_)
    refine z_athrow K (zup_at _ _ _) rfl dX13_must_19 ?_
    exact z_out K rfl (by omega) (by omega) ⟨rfl, tfH_eq N8⟩
/-- a digit at p -/
abbrev isD (t : Nat → Int) (n : Nat) (p : Int) : Prop := 48 ≤ hrC t n p ∧ hrC t n p ≤ 57
theorem isD.lt {t : Nat → Int} {n : Nat} {p : Int} (h : isD t n p) : p < n := by
  by_cases c : p < n
  · exact c
  · have e : hrC t n p = -1 := if_neg c
    have := h.1
    omega
theorem hrC.lt {t : Nat → Int} {n : Nat} {p c : Int} (h : hrC t n p = c) (hc : 0 ≤ c) : p < n := by
  by_cases z : p < n
  · exact z
  · have e : hrC t n p = -1 := if_neg z
    omega
theorem x13_digitY (hA : Am h) (hR : h r = some (oRd s p)) (r8 : 1000 ≤ r) (rs : r ≠ s) (rV : r ≠ V) (hT : TxH h s V t n) (hp : 0 ≤ p ∧ p ≤ n) (e : isD t n p) : zMet yX13_digit (ws_ yX13_digit cX13_digit 1 (some .int)) 8 [.ref r] h (zRet (.int (iI (hrC t n p - 48))) (zup h r (oRd s (p + 1)))) 0 0 := by
  obtain ⟨n9, ht⟩ := hT.r
  have hr := hrC_r (n := n) ht hp.1
  have k1 := x13_here hA hR hT hp
  have k3 := x1_in (h := h) (x := hrC t n p) (a := 48) (b := 57) (by omega) (by omega) (by omega)
  obtain ⟨cs, hs⟩ := hT.cls
  rw [show bI (48 ≤ hrC t n p ∧ hrC t n p ≤ 57) = 1 from if_pos e] at k3
  have hpn := e.lt
  have e2 : hrC t n p = t p.toNat := if_pos hpn
  have k4 := TxH.at (i := p) (hA.up r8) (hT.up (m := r) (c := oRd s (p + 1)) rs.symm rV.symm) hp.1 hpn
  refine zMet.of (by decide) (Nat.le_of_ble_eq_true rfl) fun X K => ?_
  refine z_aload_n K dX13_digit_0 rfl rfl rfl ?_
  refine z_callV K (k1) cV_X13_29_X13 (hR) rfl rfl rfl (by omega) (by omega) (by omega) (Nat.le_of_ble_eq_true rfl) dX13_digit_1 zrX (zrK ?_)
  refine j_bipush K dX13_digit_4 (by decide +kernel) ?_
  refine j_bipush K dX13_digit_6 (by decide +kernel) ?_
  refine z_cSN (fs := []) K (k3) cS_X13_41 rfl rfl (by omega) (by omega) (by omega) (Nat.le_of_ble_eq_true rfl) dX13_digit_8 zrX (zrK ?_)
  refine j_if_ne (tgt := 26) K dX13_digit_11 rfl (by omega) (fun c_11 => ?_) (fun c_11 => ?_)
  · refine z_aload_n K dX13_digit_26 rfl rfl rfl ?_
    refine z_get K fd_X13_9_12 (hR) rfl dX13_digit_27 ?_
    refine z_aload_n K dX13_digit_30 rfl rfl rfl ?_
    refine z_dup K dX13_digit_31 rfl ?_
    refine z_get K fd_X13_15_12 (hR) rfl dX13_digit_32 ?_
    refine z_dup_x1 K dX13_digit_35 rfl rfl ?_
    refine j_iconst K dX13_digit_36 ?_
    refine j_iadd K dX13_digit_37 ?_
    refine z_putE K fd_X13_15_12 ⟨_, rfl, Or.inl rfl⟩ (hR) (by omega) (Nat.le_of_ble_eq_true rfl) (zf_i) dX13_digit_38 (rfl) ?_
    refine z_callV K (k4) cV_X13_25_J8 (by first | exact (zup_ne rs.symm).trans hs | exact hs) rfl rfl rfl (by omega) (by omega) (by omega) (Nat.le_of_ble_eq_true rfl) dX13_digit_41 zrX (zrK ?_)
    refine j_bipush K dX13_digit_44 (by decide +kernel) ?_
    refine j_isub K dX13_digit_46 ?_
    exact z_iret K (by omega) (by omega) (⟨by rw [e2], rfl⟩) dX13_digit_47
  · exact absurd c_11 (by decide)
theorem x13_digitN {N : Nat} (hA : Am h) (hR : h r = some (oRd s p)) (r8 : 1000 ≤ r) (rs : r ≠ s) (rV : r ≠ V) (hT : TxH h s V t n) (hp : 0 ≤ p ∧ p ≤ n) (e : ¬ isD t n p) (hN : h N = none) (hN1 : h (N + 1) = none) (N8 : 1000 ≤ N) : zMet yX13_digit (ws_ yX13_digit cX13_digit 1 (some .int)) 8 [.ref r] h (fun z h' => z = .inr N ∧ h' = tfH h N (N + 1) p) 2 15 := by
  obtain ⟨n9, ht⟩ := hT.r
  have hr := hrC_r (n := n) ht hp.1
  have k1 := x13_here hA hR hT hp
  have k3 := x1_in (h := h) (x := hrC t n p) (a := 48) (b := 57) (by omega) (by omega) (by omega)
  have hrN : r ≠ N := fun e => by rw [e, hN] at hR; cases hR
  rw [show bI (48 ≤ hrC t n p ∧ hrC t n p ≤ 57) = 0 from if_neg e] at k3
  have k2 := x15_init (h := zup h N (.inr (14, [.null, .null, .null, .null, .null, .int 0, .int 0, .int 0]))) (q := N) (a := N + 1) (ps := p) (hA.up N8) (zup_at _ _ _) ((zup_ne (by omega)).trans hN1) N8 (by omega)
  refine zMet.of (by decide) (Nat.le_of_ble_eq_true rfl) fun X K => ?_
  refine z_aload_n K dX13_digit_0 rfl rfl rfl ?_
  refine z_callV K (k1) cV_X13_29_X13 (by first | exact hR | exact (zup_ne hrN).trans hR) rfl rfl rfl (by omega) (by omega) (by omega) (Nat.le_of_ble_eq_true rfl) dX13_digit_1 zrX (zrK ?_)
  refine j_bipush K dX13_digit_4 (by decide +kernel) ?_
  refine j_bipush K dX13_digit_6 (by decide +kernel) ?_
  refine z_cSN (fs := []) K (k3) cS_X13_41 rfl rfl (by omega) (by omega) (by omega) (Nat.le_of_ble_eq_true rfl) dX13_digit_8 zrX (zrK ?_)
  refine j_if_ne (tgt := 26) K dX13_digit_11 rfl (by omega) (fun c_11 => ?_) (fun c_11 => ?_)
  · exact absurd rfl c_11
  · refine z_new K (N) nw_X13_36 hN (by omega) (by omega) (by omega) dX13_digit_14 ?_
    refine z_dup K dX13_digit_17 rfl ?_
    refine z_aload_n K dX13_digit_18 rfl rfl rfl ?_
    refine z_get K fd_X13_15_12 (by first | exact hR | exact (zup_ne hrN).trans hR) rfl dX13_digit_19 ?_
    refine z_cI (fs := []) K (k2) cI_X13_38 rfl rfl (by omega) (by omega) (by omega) (Nat.le_of_ble_eq_true rfl) dX13_digit_22 zvX (zvK ?_)
    refine z_athrow K (zup_at _ _ _) rfl dX13_digit_25 ?_
    exact z_out K rfl (by omega) (by omega) ⟨rfl, tfH_eq N8⟩
/-- more digits of a number: j at most -/
def nmL (t : Nat → Int) (n : Nat) : Nat → Int → Int → Int × Int
  | 0, v, p => (v, p)
  | j + 1, v, p => if 0 < v ∧ isD t n p then nmL t n j (10 * v + (hrC t n p - 48)) (p + 1) else (v, p)
def nmR (t : Nat → Int) (n : Nat) (p : Int) : Int × Int := nmL t n 2 (hrC t n p - 48) (p + 1)
theorem nmL_p {t : Nat → Int} {n : Nat} : ∀ (j : Nat) (v p : Int), p ≤ n → p ≤ (nmL t n j v p).2 ∧ (nmL t n j v p).2 ≤ n
  | 0, v, p, h => ⟨Int.le_refl _, h⟩
  | j + 1, v, p, h => by
    unfold nmL
    split
    · rename_i c
      have := nmL_p (t := t) (n := n) j (10 * v + (hrC t n p - 48)) (p + 1) (by have := isD.lt (t := t) (n := n) c.2; omega)
      omega
    · exact ⟨Int.le_refl _, h⟩
theorem x13_numberN {N : Nat} (hA : Am h) (hR : h r = some (oRd s p)) (r8 : 1000 ≤ r) (rs : r ≠ s) (rV : r ≠ V) (hT : TxH h s V t n) (hp : 0 ≤ p ∧ p ≤ n) (e : ¬ isD t n p) (hN : h N = none) (hN1 : h (N + 1) = none) (N8 : 1000 ≤ N) : zMet yX13_number (ws_ yX13_number cX13_number 3 (some .int)) 9 [.ref r] h (fun z h' => z = .inr N ∧ h' = tfH h N (N + 1) p) 2 15 := by
  have k1 := x13_digitN hA hR r8 rs rV hT hp e hN hN1 N8
  refine zMet.of (by decide) (Nat.le_of_ble_eq_true rfl) fun X K => ?_
  refine z_aload_n K dX13_number_0 rfl rfl rfl ?_
  refine z_callV K k1 cV_X13_45_X13 hR rfl rfl rfl (by omega) (by omega) (by omega) (Nat.le_of_ble_eq_true rfl) dX13_number_1 (fun q h' hq => ?_) (fun v h' hv => by cases hv.1)
  exact z_out K rfl (by omega) (by omega) hq
theorem x13_numberY (hA : Am h) (hR : h r = some (oRd s p)) (r8 : 1000 ≤ r) (rs : r ≠ s) (rV : r ≠ V) (hT : TxH h s V t n) (hp : 0 ≤ p ∧ p ≤ n) (e : isD t n p) : zMet yX13_number (ws_ yX13_number cX13_number 3 (some .int)) 9 [.ref r] h (zRet (.int (iI (nmR t n p).1)) (zup h r (oRd s (nmR t n p).2))) 0 0 := by
  obtain ⟨n9, ht⟩ := hT.r
  have k1 := x13_digitY hA hR r8 rs rV hT hp e
  refine zMet.of (by decide) (Nat.le_of_ble_eq_true rfl) fun X K => ?_
  have loop : ∀ (j : Nat) (v p' k : Int), k + j = 3 → 0 ≤ v → v < 10 ^ (3 - j) → 0 ≤ p' → p' ≤ n → nmL t n j v p' = nmR t n p → j ≤ 2 → ∀ env, zsub env [(0, .ref r), (1, .int (iI v)), (2, .int (iI k))] → zW X (zRet (.int (iI (nmR t n p).1)) (zup h r (oRd s (nmR t n p).2))) (zup h r (oRd s p')) 0 0 7 env [] := by
    intro j
    induction j with
    | zero =>
      intro v p' k hk v0 v1 p0 p1 hn hj env he
      refine zW.cut he ?_
      rw [← hn]
      refine z_iload_n K dX13_number_7 rfl rfl ?_
      refine j_iconst K dX13_number_8 ?_
      refine j_icmp_ge (tgt := 46) K dX13_number_9 rfl (by omega) (by omega) (fun c_9 => ?_) (fun c_9 => ?_)
      · refine z_iload_n K dX13_number_46 rfl rfl ?_
        exact z_iret K (by omega) (by omega) (⟨rfl, rfl⟩) dX13_number_47
      · exact absurd c_9 (by omega)
    | succ j ih =>
      intro v p' k hk v0 v1 p0 p1 hn hj env he
      refine zW.cut he ?_
      have hr9 := hrC_r (n := n) ht p0
      have hv9 : v ≤ 1000 := Int.le_trans (Int.le_of_lt v1) (by rcases (by omega : j = 0 ∨ j = 1) with rfl | rfl <;> decide)
      have k2 := x13_here (h := zup h r (oRd s p')) (r := r) (p := p') (hA.up r8) (zup_at _ _ _) (hT.up rs.symm rV.symm) ⟨p0, p1⟩
      have k3 := x1_in (h := zup h r (oRd s p')) (x := hrC t n p') (a := 48) (b := 57) (by omega) (by omega) (by omega)
      by_cases c : 0 < v ∧ isD t n p'
      · have k4 := x13_digitY (h := zup h r (oRd s p')) (r := r) (p := p') (hA.up r8) (zup_at _ _ _) r8 rs rV (hT.up rs.symm rV.symm) ⟨p0, p1⟩ c.2
        rw [zup_zup] at k4
        rw [show bI (48 ≤ hrC t n p' ∧ hrC t n p' ≤ 57) = 1 from if_pos c.2] at k3
        have c2 := c.2
        have clt := isD.lt (t := t) (n := n) c.2
        rw [show nmL t n (j + 1) v p' = nmL t n j (10 * v + (hrC t n p' - 48)) (p' + 1) from if_pos c] at hn
        have nx := ih (10 * v + (hrC t n p' - 48)) (p' + 1) (k + 1) (by omega) (by omega) (by rcases (by omega : j = 0 ∨ j = 1) with rfl | rfl <;> (simp only [Nat.reduceSub, Int.reducePow] at v1 ⊢; omega)) (by omega) (by omega) hn (by omega)
        refine z_iload_n K dX13_number_7 rfl rfl ?_
        refine j_iconst K dX13_number_8 ?_
        refine j_icmp_ge (tgt := 46) K dX13_number_9 rfl (by omega) (by omega) (fun c_9 => ?_) (fun c_9 => ?_)
        · exact absurd c_9 (by omega)
        · refine z_iload_n K dX13_number_12 rfl rfl ?_
          refine j_if_le (tgt := 46) K dX13_number_13 rfl (by omega) (fun c_13 => ?_) (fun c_13 => ?_)
          · exact absurd c_13 (by omega)
          · refine z_aload_n K dX13_number_16 rfl rfl rfl ?_
            refine z_callV K (k2) cV_X13_29_X13 (zup_at _ _ _) rfl rfl rfl (by omega) (by omega) (by omega) (Nat.le_of_ble_eq_true rfl) dX13_number_17 zrX (zrK ?_)
            refine j_bipush K dX13_number_20 (by decide +kernel) ?_
            refine j_bipush K dX13_number_22 (by decide +kernel) ?_
            refine z_cSN (fs := []) K (k3) cS_X13_41 rfl rfl (by omega) (by omega) (by omega) (Nat.le_of_ble_eq_true rfl) dX13_number_24 zrX (zrK ?_)
            refine j_if_eq (tgt := 46) K dX13_number_27 rfl (by omega) (fun c_27 => ?_) (fun c_27 => ?_)
            · exact absurd c_27 (by decide)
            · refine j_bipush K dX13_number_30 (by decide +kernel) ?_
              refine z_iload_n K dX13_number_32 rfl rfl ?_
              refine j_imul K dX13_number_33 ?_
              refine z_aload_n K dX13_number_34 rfl rfl rfl ?_
              refine z_callV K (k4) cV_X13_45_X13 (zup_at _ _ _) rfl rfl rfl (by omega) (by omega) (by omega) (Nat.le_of_ble_eq_true rfl) dX13_number_35 zrX (zrK ?_)
              refine j_iadd K dX13_number_38 ?_
              refine z_istore_n K dX13_number_39 rfl (by decide) rfl ?_
              refine j_iinc K dX13_number_40 rfl (by decide) rfl ?_
              refine z_goto (tgt := 7) K dX13_number_43 rfl ?_
              exact nx _ ⟨rfl, rfl, rfl, trivial⟩
      · rw [show nmL t n (j + 1) v p' = (v, p') from if_neg c] at hn
        rw [← hn]
        refine z_iload_n K dX13_number_7 rfl rfl ?_
        refine j_iconst K dX13_number_8 ?_
        refine j_icmp_ge (tgt := 46) K dX13_number_9 rfl (by omega) (by omega) (fun c_9 => ?_) (fun c_9 => ?_)
        · exact absurd c_9 (by omega)
        · refine z_iload_n K dX13_number_12 rfl rfl ?_
          refine j_if_le (tgt := 46) K dX13_number_13 rfl (by omega) (fun c_13 => ?_) (fun c_13 => ?_)
          · refine z_iload_n K dX13_number_46 rfl rfl ?_
            exact z_iret K (by omega) (by omega) (⟨rfl, rfl⟩) dX13_number_47
          · rw [show bI (48 ≤ hrC t n p' ∧ hrC t n p' ≤ 57) = 0 from if_neg (fun z => c ⟨by omega, z⟩)] at k3
            refine z_aload_n K dX13_number_16 rfl rfl rfl ?_
            refine z_callV K (k2) cV_X13_29_X13 (zup_at _ _ _) rfl rfl rfl (by omega) (by omega) (by omega) (Nat.le_of_ble_eq_true rfl) dX13_number_17 zrX (zrK ?_)
            refine j_bipush K dX13_number_20 (by decide +kernel) ?_
            refine j_bipush K dX13_number_22 (by decide +kernel) ?_
            refine z_cSN (fs := []) K (k3) cS_X13_41 rfl rfl (by omega) (by omega) (by omega) (Nat.le_of_ble_eq_true rfl) dX13_number_24 zrX (zrK ?_)
            refine j_if_eq (tgt := 46) K dX13_number_27 rfl (by omega) (fun c_27 => ?_) (fun c_27 => ?_)
            · refine z_iload_n K dX13_number_46 rfl rfl ?_
              exact z_iret K (by omega) (by omega) (⟨rfl, rfl⟩) dX13_number_47
            · exact absurd rfl c_27
  have st := loop 2 (hrC t n p - 48) (p + 1) 1 (by omega) (by omega) (by have := e.2; simp only [Nat.reduceSub, Int.reducePow]; omega) (by omega) (by have := isD.lt (t := t) (n := n) e; omega) rfl (by omega)
  refine z_aload_n K dX13_number_0 rfl rfl rfl ?_
  refine z_callV K (k1) cV_X13_45_X13 (hR) rfl rfl rfl (by omega) (by omega) (by omega) (Nat.le_of_ble_eq_true rfl) dX13_number_1 zrX (zrK ?_)
  refine z_istore_n K dX13_number_4 rfl (by decide) rfl ?_
  refine j_iconst K dX13_number_5 ?_
  refine z_istore_n K dX13_number_6 rfl (by decide) rfl ?_
  exact st _ ⟨rfl, rfl, rfl, trivial⟩
end XRd

