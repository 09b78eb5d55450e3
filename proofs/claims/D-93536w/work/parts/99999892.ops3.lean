/-! ===== the component's operations: what changes numbers ===== -/
section XO3
variable {b N : Nat} {u u' w : tW} {g h0 : zH} {R : Int → tW → Prop} {cd : Nat → Int}
theorem cQ.sh {v : Int} (hC : CG b N u g w) (hf : ∀ m, m < 1040 → h0 m = g m) (hI : SIr (u' 0)) (hB : BkOk b u' g) (e5 : u' 5 = u 5) (e3 : u' 3 = u 3) (hR : ∀ v' w', R v' w' → w' 3 0 = 0 ∧ v' = v ∧ sw w w' ∧ u' 0 = w' 0) : cQ h0 R cd (.inl (some (.int (iI v)))) (sH b u' g) := by
  refine ⟨fun m hm => (sH_out (by have := hC.1; omega)).trans (hf m hm).symm, Or.inl ⟨v, rfl, fun v' w' r => ?_⟩⟩
  obtain ⟨a1, a2, a3, a4⟩ := hR v' w' r
  exact ⟨a1, a2, hC.shop a3 a4 hI hB (by rw [e5]) (by rw [e5]) (fun t k => by rw [e3]; exact t k)⟩
theorem pub.at {t v0 v : Int} {w0 w' : tW} (h : pub w t v0 w0 w' v) (e : t = 0) : v = v0 ∧ w' = w0 := h.1 e
theorem sw.set0 {i : Nat} {v : Int} : sw w (tset (tset w 3 0 0) 0 i v) := fun f a _ c => (tsG (by omega)).trans (sw.set f a (by assumption) c)
theorem set0_3 {i : Nat} {v : Int} : tset (tset w 3 0 0) 0 i v 3 0 = 0 := (tsF (by decide)).trans set3_3
theorem set0_0 {i : Nat} {v : Int} : tset (tset w 3 0 0) 0 i v 0 = sup (w 0) i v := by rw [tsP, set3_0]
theorem BkOk.ts {i : Nat} {v : Int} (h : BkOk b u g) (hi : i < 151) : BkOk b (tset u 0 i v) g := by
  intro m q m0 m1 q0 q1
  rw [tsN (by omega)] at q1
  rw [tsF (by decide), tsF (by decide), tsN (by omega), tsN (by omega)]
  exact h m q m0 m1 q0 q1
theorem x1_setDuration {k v : Int} (hC : CG b N u g w) (hk : i32 k) (hv : i32 v) : zMet yX1_setDuration (ws_ yX1_setDuration cX1_setDuration 5 (some .int)) 8 [.ref 1040, .int (iI k), .int (iI v)] (sH b u g) (cQ (sH b u g) (fun v9 w' => pub w (tcSetDur w k v) (w 0 (82 + k).toNat) (tset (tset w 3 0 0) 0 (82 + k).toNat v) w' v9) (cdA 24 22 99)) 2 12 := by
  obtain ⟨sv, T, fl, cl, hx⟩ := hC.xg
  have n8 := hC.n8
  have h20 := hC.A.2.1.1
  have hJ := hC.A.1
  have k0 := x1_operationAt hC hk
  have k2 := x1_inG (h := sH b u g) (x := v) (a := 1) (b := 30) hv (by omega) (by omega)
  have k3 := x1_check (h := sH b u g) (N := N) (v := bI (1 ≤ v ∧ v ≤ 30)) hC.am (b01r _) hC.fr n8.2.2.2
  generalize hR : (fun v9 w' => pub w (tcSetDur w k v) (w 0 (82 + k).toNat) (tset (tset w 3 0 0) 0 (82 + k).toNat v) w' v9) = R
  have hex : ¬ (0 ≤ k ∧ k ≤ u 0 1 - 1) → cQ (sH b u g) R (cdA 24 22 99) (.inr N) (zup (sH b u g) N (oEx 24 (sH b u g) N)) := fun ck => cQ.ex hC hC.lo (by decide) (fun v' w' r => by rw [← hR] at r; exact pub.ex r (if_pos (by rw [← hC.row]; exact ck)) (by decide))
  have hex2 : (0 ≤ k ∧ k ≤ u 0 1 - 1) → ¬ (1 ≤ v ∧ v ≤ 30) → cQ (sH b u g) R (cdA 24 22 99) (.inr N) (zup (sH b u g) N (oEx 22 (sH b u g) N)) := fun c1 ck => cQ.ex hC hC.lo (by decide) (fun v' w' r => by rw [← hR] at r; exact pub.ex r ((if_neg (not_not_intro (by rw [← hC.row]; exact c1))).trans (if_pos ck)) (by decide))
  have hok : (0 ≤ k ∧ k ≤ u 0 1 - 1) → (1 ≤ v ∧ v ≤ 30) → cQ (sH b u g) R (cdA 24 22 99) (.inl (some (.int (iI (u 0 (82 + k).toNat))))) (sH b (tset u 0 (82 + k).toNat v) g) := fun c1 c2 => by
    refine cQ.sh hC hC.lo (by rw [tsP]; exact hC.2.2.2.2.2.1.dur (by omega) c2) (hC.bk.ts (by omega)) (tsG (by decide)) (tsG (by decide)) (fun v' w' r => ?_)
    rw [← hR] at r
    obtain ⟨r1, rfl⟩ := pub.at r ((if_neg (not_not_intro (by rw [← hC.row]; exact c1))).trans (if_neg (not_not_intro c2)))
    exact ⟨set0_3, by rw [r1, hC.row], sw.set0, by rw [set0_0, tsP, hC.row]⟩
  refine zMet.of (by decide) (Nat.le_of_ble_eq_true rfl) fun X K => ?_
  refine z_aload_n K dX1_setDuration_0 rfl rfl rfl ?_
  refine z_iload_n K dX1_setDuration_1 rfl rfl ?_
  refine z_callV K (k0) cV_X1_109_X1 (hx _) rfl rfl rfl (by omega) (by omega) (by omega) (Nat.le_of_ble_eq_true rfl) dX1_setDuration_2 (ckX fun ck_2 => z_out K rfl (by omega) (by omega) (hex ck_2)) (rkK fun ck_2 => ?_)
  refine z_astore_n K dX1_setDuration_5 rfl rfl (by decide) rfl ?_
  refine z_iload_n K dX1_setDuration_6 rfl rfl ?_
  refine j_iconst K dX1_setDuration_7 ?_
  refine j_bipush K dX1_setDuration_8 (by decide +kernel) ?_
  refine z_callS K (k2) cS_X1_3 rfl rfl (by omega) (by omega) (by omega) (Nat.le_of_ble_eq_true rfl) dX1_setDuration_10 zrX (zrK ?_)
  refine z_callS K (k3) cS_X1_80 rfl rfl (by omega) (by omega) (by omega) (Nat.le_of_ble_eq_true rfl) dX1_setDuration_13 (ckX fun ck_13 => z_out K rfl (by omega) (by omega) (hex2 ck_2 (fun q => ck_13 (by rw [show bI (1 ≤ v ∧ v ≤ 30) = 1 from if_pos q]; decide)))) (ckK fun ck_13 => ?_)
  have ck := bI_n ck_13
  refine z_aload_n K dX1_setDuration_16 rfl rfl rfl ?_
  refine z_get K fd_X1_113_5 (sH_op ⟨by omega, by omega⟩ (by omega)) rfl dX1_setDuration_17 ?_
  refine z_istore K dX1_setDuration_20 (by decide) rfl ?_
  refine z_aload_n K dX1_setDuration_22 rfl rfl rfl ?_
  refine z_iload_n K dX1_setDuration_23 rfl rfl ?_
  refine z_putE K fd_X1_113_5 ⟨_, rfl, Or.inl rfl⟩ (sH_op ⟨by omega, by omega⟩ (by omega)) (by omega) (Nat.le_of_ble_eq_true rfl) (zf_i) dX1_setDuration_24 (sH_dur hJ ⟨by omega, by omega⟩ (by omega)) ?_
  refine z_iload K dX1_setDuration_27 rfl ?_
  exact z_iret K (by omega) (by omega) (hok ck_2 ck) dX1_setDuration_29
theorem x1_setSetup {a c v : Int} (hC : CG b N u g w) (ha : i32 a) (hc : i32 c) (hv : i32 v) : zMet yX1_setSetup (ws_ yX1_setSetup cX1_setSetup 5 (some .int)) 8 [.ref 1040, .int (iI a), .int (iI c), .int (iI v)] (sH b u g) (cQ (sH b u g) (fun v9 w' => pub w (tcSetSetup a c v) (w 0 (142 + 3 * a + c).toNat) (tset (tset w 3 0 0) 0 (142 + 3 * a + c).toNat v) w' v9) (cdA 24 22 99)) 2 12 := by
  obtain ⟨sv, T, fl, cl, hx⟩ := hC.xg
  have n8 := hC.n8
  have hJ := hC.A.1
  have k1 := x1_inG (h := sH b u g) (x := a) (a := 0) (b := 2) ha (by omega) (by omega)
  have k2 := x1_inG (h := sH b u g) (x := c) (a := 0) (b := 2) hc (by omega) (by omega)
  have k3 := x1_inG (h := sH b u g) (x := v) (a := 0) (b := 9) hv (by omega) (by omega)
  have kc := fun v hv => x1_checkIndex (h := sH b u g) (N := N) (v := v) hC.am hv hC.fr n8.2.2.2
  have k4 := x1_check (h := sH b u g) (N := N) (v := bI (0 ≤ v ∧ v ≤ 9)) hC.am (b01r _) hC.fr n8.2.2.2
  generalize hR : (fun v9 w' => pub w (tcSetSetup a c v) (w 0 (142 + 3 * a + c).toNat) (tset (tset w 3 0 0) 0 (142 + 3 * a + c).toNat v) w' v9) = R
  have hex : ¬ ((0 ≤ a ∧ a ≤ 2) ∧ 0 ≤ c ∧ c ≤ 2) → cQ (sH b u g) R (cdA 24 22 99) (.inr N) (zup (sH b u g) N (oEx 24 (sH b u g) N)) := fun ck => cQ.ex hC hC.lo (by decide) (fun v' w' r => by rw [← hR] at r; exact pub.ex r (if_pos ck) (by decide))
  have hex2 : ((0 ≤ a ∧ a ≤ 2) ∧ 0 ≤ c ∧ c ≤ 2) → ¬ (0 ≤ v ∧ v ≤ 9) → cQ (sH b u g) R (cdA 24 22 99) (.inr N) (zup (sH b u g) N (oEx 22 (sH b u g) N)) := fun c1 ck => cQ.ex hC hC.lo (by decide) (fun v' w' r => by rw [← hR] at r; exact pub.ex r ((if_neg (not_not_intro c1)).trans (if_pos ck)) (by decide))
  have hok : ((0 ≤ a ∧ a ≤ 2) ∧ 0 ≤ c ∧ c ≤ 2) → (0 ≤ v ∧ v ≤ 9) → cQ (sH b u g) R (cdA 24 22 99) (.inl (some (.int (iI (u 0 (142 + (3 * a + c)).toNat))))) (sH b (tset u 0 (142 + (3 * a + c)).toNat v) g) := fun c1 c2 => by
    refine cQ.sh hC hC.lo (by rw [tsP]; exact hC.2.2.2.2.2.1.stp (by omega) c2) (hC.bk.ts (by omega)) (tsG (by decide)) (tsG (by decide)) (fun v' w' r => ?_)
    rw [← hR] at r
    obtain ⟨r1, rfl⟩ := pub.at r ((if_neg (not_not_intro c1)).trans (if_neg (not_not_intro c2)))
    exact ⟨set0_3, by rw [r1, hC.row, Int.add_assoc], sw.set0, by rw [set0_0, tsP, hC.row, Int.add_assoc]⟩
  refine zMet.of (by decide) (Nat.le_of_ble_eq_true rfl) fun X K => ?_
  have bad : ¬ ((0 ≤ a ∧ a ≤ 2) ∧ 0 ≤ c ∧ c ≤ 2) → ∀ env, zsub env [] → zW X (cQ (sH b u g) R (cdA 24 22 99)) (sH b u g) 0 0 22 env [] := by
    intro hno env he
    refine zW.cut he ?_
    have kc0 := kc 0 (by omega)
    refine j_iconst K dX1_setSetup_22 ?_
    refine z_callS K (kc0) cS_X1_49 rfl rfl (by omega) (by omega) (by omega) (Nat.le_of_ble_eq_true rfl) dX1_setSetup_23 (ckX fun ck_23 => z_out K rfl (by omega) (by omega) (hex hno)) (ckK fun ck_23 => ?_)
    exact absurd rfl ck_23
  have kc1 := kc 1 (by omega)
  refine z_iload_n K dX1_setSetup_0 rfl rfl ?_
  refine j_iconst K dX1_setSetup_1 ?_
  refine j_iconst K dX1_setSetup_2 ?_
  refine z_callS K (k1) cS_X1_3 rfl rfl (by omega) (by omega) (by omega) (Nat.le_of_ble_eq_true rfl) dX1_setSetup_3 zrX (zrK ?_)
  refine j_if_eq (tgt := 22) K dX1_setSetup_6 rfl (b01r _) (fun c_6 => ?_) (fun c_6 => ?_)
  · exact bad (fun q => by first | exact bI_y c_15 q.2 | exact bI_y c_6 q.1) _ trivial
  · refine z_iload_n K dX1_setSetup_9 rfl rfl ?_
    refine j_iconst K dX1_setSetup_10 ?_
    refine j_iconst K dX1_setSetup_11 ?_
    refine z_callS K (k2) cS_X1_3 rfl rfl (by omega) (by omega) (by omega) (Nat.le_of_ble_eq_true rfl) dX1_setSetup_12 zrX (zrK ?_)
    refine j_if_eq (tgt := 22) K dX1_setSetup_15 rfl (b01r _) (fun c_15 => ?_) (fun c_15 => ?_)
    · exact bad (fun q => by first | exact bI_y c_15 q.2 | exact bI_y c_6 q.1) _ trivial
    · refine j_iconst K dX1_setSetup_18 ?_
      refine z_goto (tgt := 23) K dX1_setSetup_19 rfl ?_
      refine z_callS K (kc1) cS_X1_49 rfl rfl (by omega) (by omega) (by omega) (Nat.le_of_ble_eq_true rfl) dX1_setSetup_23 (ckX fun ck_23 => absurd (by decide) ck_23) (ckK fun ck_23 => ?_)
      have cc := And.intro (bI_n c_6) (bI_n c_15)
      refine z_iload_n K dX1_setSetup_26 rfl rfl ?_
      refine j_iconst K dX1_setSetup_27 ?_
      refine j_bipush K dX1_setSetup_28 (by decide +kernel) ?_
      refine z_callS K (k3) cS_X1_3 rfl rfl (by omega) (by omega) (by omega) (Nat.le_of_ble_eq_true rfl) dX1_setSetup_30 zrX (zrK ?_)
      refine z_callS K (k4) cS_X1_80 rfl rfl (by omega) (by omega) (by omega) (Nat.le_of_ble_eq_true rfl) dX1_setSetup_33 (ckX fun ck_33 => z_out K rfl (by omega) (by omega) (hex2 cc (fun q => ck_33 (by rw [show bI (0 ≤ v ∧ v ≤ 9) = 1 from if_pos q]; decide)))) (ckK fun ck_33 => ?_)
      have ck := bI_n ck_33
      refine z_aload_n K dX1_setSetup_36 rfl rfl rfl ?_
      refine z_get K fd_X1_16_1 (hx _) rfl dX1_setSetup_37 ?_
      refine z_get K fd_X1_116_2 (sH_shop) rfl dX1_setSetup_40 ?_
      refine j_iconst K dX1_setSetup_43 ?_
      refine z_iload_n K dX1_setSetup_44 rfl rfl ?_
      refine j_imul K dX1_setSetup_45 ?_
      refine z_iload_n K dX1_setSetup_46 rfl rfl ?_
      refine j_iadd K dX1_setSetup_47 ?_
      refine s_ldset K (trivial) (by omega) (by omega) dX1_setSetup_48 ?_
      refine z_istore K dX1_setSetup_49 (by decide) rfl ?_
      refine z_aload_n K dX1_setSetup_51 rfl rfl rfl ?_
      refine z_get K fd_X1_16_1 (hx _) rfl dX1_setSetup_52 ?_
      refine z_get K fd_X1_116_2 (sH_shop) rfl dX1_setSetup_55 ?_
      refine j_iconst K dX1_setSetup_58 ?_
      refine z_iload_n K dX1_setSetup_59 rfl rfl ?_
      refine j_imul K dX1_setSetup_60 ?_
      refine z_iload_n K dX1_setSetup_61 rfl rfl ?_
      refine j_iadd K dX1_setSetup_62 ?_
      refine z_iload_n K dX1_setSetup_63 rfl rfl ?_
      refine s_stset K (trivial) (by omega) (by omega) (by omega) dX1_setSetup_64 (hJ) ?_
      refine z_iload K dX1_setSetup_65 rfl ?_
      exact z_iret K (by omega) (by omega) (hok cc ck) dX1_setSetup_67
theorem jpOk_iff {a v : Int} (ha : 0 ≤ a ∧ a ≤ 2) : jpOk a v ↔ isJV (if a = 0 then v else 0) (if a = 1 then v else 0) (if a = 2 then v else 0) := by
  unfold jpOk isJV
  rcases (by omega : a = 0 ∨ a = 1 ∨ a = 2) with rfl | rfl | rfl <;> simp
theorem x1_setJob {j a v : Int} (hC : CG b N u g w) (hj : i32 j) (ha : i32 a) (hv : i32 v) : zMet yX1_setJob (ws_ yX1_setJob cX1_setJob 6 (some .int)) 8 [.ref 1040, .int (iI j), .int (iI a), .int (iI v)] (sH b u g) (cQ (sH b u g) (fun v9 w' => pub w (tcSetJob w j a v) (w 0 (2 + 5 * a + j).toNat) (tset (tset w 3 0 0) 0 (2 + 5 * a + j).toNat v) w' v9) (cdA 24 22 99)) 3 18 := by
  obtain ⟨sv, T, fl, cl, hx⟩ := hC.xg
  have n8 := hC.n8
  have hJ := hC.A.1
  have h05 := hJ.1
  have k0 := x1_jobAt hC hj
  have k2 := x1_inG (h := sH b u g) (x := a) (a := 0) (b := 2) ha (by omega) (by omega)
  have k3 := x1_check (h := sH b u g) (N := N) (v := bI (0 ≤ a ∧ a ≤ 2)) hC.am (b01r _) hC.fr n8.2.2.2
  generalize hR : (fun v9 w' => pub w (tcSetJob w j a v) (w 0 (2 + 5 * a + j).toNat) (tset (tset w 3 0 0) 0 (2 + 5 * a + j).toNat v) w' v9) = R
  have hex : ¬ (0 ≤ j ∧ j ≤ u 0 0 - 1) → cQ (sH b u g) R (cdA 24 22 99) (.inr N) (zup (sH b u g) N (oEx 24 (sH b u g) N)) := fun ck => cQ.ex hC hC.lo (by decide) (fun v' w' r => by rw [← hR] at r; exact pub.ex r (if_pos (by rw [← hC.row]; exact ck)) (by decide))
  have hex2 : (0 ≤ j ∧ j ≤ u 0 0 - 1) → ¬ ((0 ≤ a ∧ a ≤ 2) ∧ bP (jpOk a v) ≠ 0) → cQ (sH b u g) R (cdA 24 22 99) (.inr N) (zup (sH b u g) N (oEx 22 (sH b u g) N)) := fun c1 ck => cQ.ex hC hC.lo (by decide) (fun v' w' r => by rw [← hR] at r; exact pub.ex r ((if_neg (not_not_intro (by rw [← hC.row]; exact c1))).trans (if_pos ck)) (by decide))
  have hok : (0 ≤ j ∧ j ≤ u 0 0 - 1) → (0 ≤ a ∧ a ≤ 2) → jpOk a v → cQ (sH b u g) R (cdA 24 22 99) (.inl (some (.int (iI (u 0 (2 + 5 * a + j).toNat))))) (sH b (tset u 0 (2 + 5 * a + j).toNat v) g) := fun c1 c2 c3 => by
    refine cQ.sh hC hC.lo (by rw [tsP]; exact hC.2.2.2.2.2.1.val (by omega) c2 c3) (hC.bk.ts (by omega)) (tsG (by decide)) (tsG (by decide)) (fun v' w' r => ?_)
    rw [← hR] at r
    obtain ⟨r1, rfl⟩ := pub.at r ((if_neg (not_not_intro (by rw [← hC.row]; exact c1))).trans (if_neg (not_not_intro ⟨c2, by rw [bP_t c3]; decide⟩)))
    exact ⟨set0_3, by rw [r1, hC.row], sw.set0, by rw [set0_0, tsP, hC.row]⟩
  refine zMet.of (by decide) (Nat.le_of_ble_eq_true rfl) fun X K => ?_
  have rest : (0 ≤ j ∧ j ≤ u 0 0 - 1) → (0 ≤ a ∧ a ≤ 2) → ∀ x y z : Int, x = (if a = 0 then v else 0) → y = (if a = 1 then v else 0) → z = (if a = 2 then v else 0) → ∀ env, zsub env [(2, .int (iI a)), (3, .int (iI v)), (4, .ref (b + 32 + j.toNat))] → zW X (cQ (sH b u g) R (cdA 24 22 99)) (sH b u g) 2 12 45 env [.int (iI z), .int (iI y), .int (iI x)] := by
    intro c1 c2 x y z ex ey ez env he
    refine zW.cut he ?_
    have r : i32 x ∧ i32 y ∧ i32 z := by rw [ex, ey, ez]; refine ⟨?_, ?_, ?_⟩ <;> split <;> first | exact hv | decide
    have k5 := x1_areJobValues (h := sH b u g) r.1 r.2.1 r.2.2
    have k6 := x1_check (h := sH b u g) (N := N) (v := bI (isJV x y z)) hC.am (b01r _) hC.fr n8.2.2.2
    have ij : jpOk a v ↔ isJV x y z := by rw [ex, ey, ez]; exact jpOk_iff c2
    have nz48 : bP (jpOk a v) ≠ 0 → bI (isJV x y z) ≠ 0 := fun q2 => by
      by_cases zz : jpOk a v
      · rw [show bI (isJV x y z) = 1 from if_pos (ij.mp zz)]; decide
      · exact absurd (bP_f zz) q2
    refine z_callS K (k5) cS_X1_77 rfl rfl (by omega) (by omega) (by omega) (Nat.le_of_ble_eq_true rfl) dX1_setJob_45 zrX (zrK ?_)
    refine z_callS K (k6) cS_X1_80 rfl rfl (by omega) (by omega) (by omega) (Nat.le_of_ble_eq_true rfl) dX1_setJob_48 (ckX fun ck_48 => z_out K rfl (by omega) (by omega) (hex2 c1 (fun q => ck_48 (nz48 q.2)))) (ckK fun ck_48 => ?_)
    have ck := ij.mpr (bI_n ck_48)
    refine z_aload K dX1_setJob_51 rfl rfl ?_
    refine z_get K fd_X1_105_4 (sH_job ⟨by omega, by omega⟩ (by omega)) rfl dX1_setJob_53 ?_
    refine z_iload_n K dX1_setJob_56 rfl rfl ?_
    refine s_ldval K (⟨⟨by omega, by omega⟩, by omega⟩) (by omega) (by omega) dX1_setJob_57 ?_
    refine z_istore K dX1_setJob_58 (by decide) rfl ?_
    refine z_aload K dX1_setJob_60 rfl rfl ?_
    refine z_get K fd_X1_105_4 (sH_job ⟨by omega, by omega⟩ (by omega)) rfl dX1_setJob_62 ?_
    refine z_iload_n K dX1_setJob_65 rfl rfl ?_
    refine z_iload_n K dX1_setJob_66 rfl rfl ?_
    refine s_stval K (⟨⟨by omega, by omega⟩, by omega⟩) (by omega) (by omega) (by omega) dX1_setJob_67 (hJ) ?_
    refine z_iload K dX1_setJob_68 rfl ?_
    exact z_iret K (by omega) (by omega) (hok c1 c2 ck) dX1_setJob_70
  refine z_aload_n K dX1_setJob_0 rfl rfl rfl ?_
  refine z_iload_n K dX1_setJob_1 rfl rfl ?_
  refine z_callV K (k0) cV_X1_101_X1 (hx _) rfl rfl rfl (by omega) (by omega) (by omega) (Nat.le_of_ble_eq_true rfl) dX1_setJob_2 (ckX fun ck_2 => z_out K rfl (by omega) (by omega) (hex ck_2)) (rkK fun ck_2 => ?_)
  refine z_astore K dX1_setJob_5 rfl (by decide) rfl ?_
  refine z_iload_n K dX1_setJob_7 rfl rfl ?_
  refine j_iconst K dX1_setJob_8 ?_
  refine j_iconst K dX1_setJob_9 ?_
  refine z_callS K (k2) cS_X1_3 rfl rfl (by omega) (by omega) (by omega) (Nat.le_of_ble_eq_true rfl) dX1_setJob_10 zrX (zrK ?_)
  refine z_callS K (k3) cS_X1_80 rfl rfl (by omega) (by omega) (by omega) (Nat.le_of_ble_eq_true rfl) dX1_setJob_13 (ckX fun ck_13 => z_out K rfl (by omega) (by omega) (hex2 ck_2 (fun q => ck_13 (by rw [show bI (0 ≤ a ∧ a ≤ 2) = 1 from if_pos q.1]; decide)))) (ckK fun ck_13 => ?_)
  have ck := bI_n ck_13
  refine z_iload_n K dX1_setJob_16 rfl rfl ?_
  refine j_if_ne (tgt := 24) K dX1_setJob_17 rfl (by omega) (fun c_17 => ?_) (fun c_17 => ?_)
  · refine j_iconst K dX1_setJob_24 ?_
    refine z_iload_n K dX1_setJob_25 rfl rfl ?_
    refine j_iconst K dX1_setJob_26 ?_
    refine j_icmp_ne (tgt := 34) K dX1_setJob_27 rfl (by omega) (by omega) (fun c_27 => ?_) (fun c_27 => ?_)
    · refine j_iconst K dX1_setJob_34 ?_
      refine z_iload_n K dX1_setJob_35 rfl rfl ?_
      refine j_iconst K dX1_setJob_36 ?_
      refine j_icmp_ne (tgt := 44) K dX1_setJob_37 rfl (by omega) (by omega) (fun c_37 => ?_) (fun c_37 => ?_)
      · refine j_iconst K dX1_setJob_44 ?_
        refine rest ck_2 ck _ _ _ ?_ ?_ ?_ _ ?_
        rotate_left 3
        exact ⟨rfl, rfl, rfl, trivial⟩
        all_goals first | exact (if_pos (by omega)).symm | exact (if_neg (by omega)).symm | (exfalso; omega)
      · refine z_iload_n K dX1_setJob_40 rfl rfl ?_
        refine z_goto (tgt := 45) K dX1_setJob_41 rfl ?_
        refine rest ck_2 ck _ _ _ ?_ ?_ ?_ _ ?_
        rotate_left 3
        exact ⟨rfl, rfl, rfl, trivial⟩
        all_goals first | exact (if_pos (by omega)).symm | exact (if_neg (by omega)).symm | (exfalso; omega)
    · refine z_iload_n K dX1_setJob_30 rfl rfl ?_
      refine z_goto (tgt := 35) K dX1_setJob_31 rfl ?_
      refine z_iload_n K dX1_setJob_35 rfl rfl ?_
      refine j_iconst K dX1_setJob_36 ?_
      refine j_icmp_ne (tgt := 44) K dX1_setJob_37 rfl (by omega) (by omega) (fun c_37 => ?_) (fun c_37 => ?_)
      · refine j_iconst K dX1_setJob_44 ?_
        refine rest ck_2 ck _ _ _ ?_ ?_ ?_ _ ?_
        rotate_left 3
        exact ⟨rfl, rfl, rfl, trivial⟩
        all_goals first | exact (if_pos (by omega)).symm | exact (if_neg (by omega)).symm | (exfalso; omega)
      · refine z_iload_n K dX1_setJob_40 rfl rfl ?_
        refine z_goto (tgt := 45) K dX1_setJob_41 rfl ?_
        refine rest ck_2 ck _ _ _ ?_ ?_ ?_ _ ?_
        rotate_left 3
        exact ⟨rfl, rfl, rfl, trivial⟩
        all_goals first | exact (if_pos (by omega)).symm | exact (if_neg (by omega)).symm | (exfalso; omega)
  · refine z_iload_n K dX1_setJob_20 rfl rfl ?_
    refine z_goto (tgt := 25) K dX1_setJob_21 rfl ?_
    refine z_iload_n K dX1_setJob_25 rfl rfl ?_
    refine j_iconst K dX1_setJob_26 ?_
    refine j_icmp_ne (tgt := 34) K dX1_setJob_27 rfl (by omega) (by omega) (fun c_27 => ?_) (fun c_27 => ?_)
    · refine j_iconst K dX1_setJob_34 ?_
      refine z_iload_n K dX1_setJob_35 rfl rfl ?_
      refine j_iconst K dX1_setJob_36 ?_
      refine j_icmp_ne (tgt := 44) K dX1_setJob_37 rfl (by omega) (by omega) (fun c_37 => ?_) (fun c_37 => ?_)
      · refine j_iconst K dX1_setJob_44 ?_
        refine rest ck_2 ck _ _ _ ?_ ?_ ?_ _ ?_
        rotate_left 3
        exact ⟨rfl, rfl, rfl, trivial⟩
        all_goals first | exact (if_pos (by omega)).symm | exact (if_neg (by omega)).symm | (exfalso; omega)
      · refine z_iload_n K dX1_setJob_40 rfl rfl ?_
        refine z_goto (tgt := 45) K dX1_setJob_41 rfl ?_
        refine rest ck_2 ck _ _ _ ?_ ?_ ?_ _ ?_
        rotate_left 3
        exact ⟨rfl, rfl, rfl, trivial⟩
        all_goals first | exact (if_pos (by omega)).symm | exact (if_neg (by omega)).symm | (exfalso; omega)
    · refine z_iload_n K dX1_setJob_30 rfl rfl ?_
      refine z_goto (tgt := 35) K dX1_setJob_31 rfl ?_
      refine z_iload_n K dX1_setJob_35 rfl rfl ?_
      refine j_iconst K dX1_setJob_36 ?_
      refine j_icmp_ne (tgt := 44) K dX1_setJob_37 rfl (by omega) (by omega) (fun c_37 => ?_) (fun c_37 => ?_)
      · refine j_iconst K dX1_setJob_44 ?_
        refine rest ck_2 ck _ _ _ ?_ ?_ ?_ _ ?_
        rotate_left 3
        exact ⟨rfl, rfl, rfl, trivial⟩
        all_goals first | exact (if_pos (by omega)).symm | exact (if_neg (by omega)).symm | (exfalso; omega)
      · refine z_iload_n K dX1_setJob_40 rfl rfl ?_
        refine z_goto (tgt := 45) K dX1_setJob_41 rfl ?_
        refine rest ck_2 ck _ _ _ ?_ ?_ ?_ _ ?_
        rotate_left 3
        exact ⟨rfl, rfl, rfl, trivial⟩
        all_goals first | exact (if_pos (by omega)).symm | exact (if_neg (by omega)).symm | (exfalso; omega)
end XO3

