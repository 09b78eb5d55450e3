/-! ===== the component: its checks, and what it takes out of the shop ===== -/
/-- an exception as it is made -/
abbrev oEx (ci : Nat) (h : zH) (q : Nat) : zC := .inr (ci, thL h (.ref q) [.int 0])
/-- a check: o is answered if p holds, and an exception of the class ci is thrown if not -/
def ckQ (p : Prop) (ci : Nat) (h : zH) (N : Nat) (o : Option Value) : zO → zH → Prop := fun z h' => (p ∧ z = .inl o ∧ h' = h) ∨ (¬ p ∧ z = .inr N ∧ h' = zup h N (oEx ci h N))
section XCk
variable {X : zX} {Q : zO → zH → Prop} {h : zH} {k n pc N ci : Nat} {env : List (Nat × Value)} {st : List Value} {p : Prop}
theorem ckX {o : Option Value} (kk : ¬ p → zT X Q (zup h N (oEx ci h N)) k n pc env N) : ∀ q h', ckQ p ci h N o (.inr q) h' → zT X Q h' k n pc env q := fun q h' e => by
  rcases e with ⟨-, e, -⟩ | ⟨e1, e2, e3⟩
  · cases e
  · cases e2; rw [e3]; exact kk e1
theorem ckK (kk : p → zW X Q h k n pc env st) : ∀ v' h', ckQ p ci h N none (.inl v') h' → zW X Q h' k n pc env (v'.toList ++ st) := fun v' h' e => by
  rcases e with ⟨e1, e2, e3⟩ | ⟨-, e, -⟩
  · cases e2; rw [e3]; exact kk e1
  · cases e
theorem rkK {v : Value} (kk : p → zW X Q h k n pc env (v :: st)) : ∀ v' h', ckQ p ci h N (some v) (.inl v') h' → zW X Q h' k n pc env (v'.toList ++ st) := fun v' h' e => by
  rcases e with ⟨e1, e2, e3⟩ | ⟨-, e, -⟩
  · cases e2; rw [e3]; exact kk e1
  · cases e
end XCk
section XCl
variable {h : zH} {N : Nat} {v : Int}
theorem x1_check (hA : Am h) (hv : i32 v) (hN : h N = none) (N8 : 1000 ≤ N) : zMet yX1_check (ws_ yX1_check cX1_check 1 none) 6 [.int (iI v)] h (ckQ (v ≠ 0) 22 h N none) 1 6 := by
  have k1 := j13_init (h := zup h N (.inr (22, [.null, .null, .null, .null, .null, .int 0]))) (q := N) (hA.up N8) (zup_at _ _ _) N8
  rw [thL_up N8, zup_zup] at k1
  refine zMet.of (by decide) (Nat.le_of_ble_eq_true rfl) fun X K => ?_
  refine z_iload_n K dX1_check_0 rfl rfl ?_
  refine j_if_ne (tgt := 12) K dX1_check_1 rfl (by omega) (fun c_1 => ?_) (fun c_1 => ?_)
  · exact z_vret K (by omega) (by omega) (Or.inl ⟨by omega, rfl, rfl⟩) dX1_check_12
  · refine z_new K (N) nw_X1_27 hN (by omega) (by omega) (by omega) dX1_check_4 ?_
    refine z_dup K dX1_check_7 rfl ?_
    refine z_cI (fs := []) K (k1) cI_X1_29 rfl rfl (by omega) (by omega) (by omega) (Nat.le_of_ble_eq_true rfl) dX1_check_8 zvX (zvK ?_)
    refine z_athrow K (zup_at _ _ _) rfl dX1_check_11 ?_
    exact z_out K rfl (by omega) (by omega) (Or.inr ⟨fun z => z (by omega), rfl, rfl⟩)
theorem x1_checkState (hA : Am h) (hv : i32 v) (hN : h N = none) (N8 : 1000 ≤ N) : zMet yX1_checkState (ws_ yX1_checkState cX1_checkState 1 none) 6 [.int (iI v)] h (ckQ (v ≠ 0) 23 h N none) 1 6 := by
  have k1 := j14_init (h := zup h N (.inr (23, [.null, .null, .null, .null, .null, .int 0]))) (q := N) (hA.up N8) (zup_at _ _ _) N8
  rw [thL_up N8, zup_zup] at k1
  refine zMet.of (by decide) (Nat.le_of_ble_eq_true rfl) fun X K => ?_
  refine z_iload_n K dX1_checkState_0 rfl rfl ?_
  refine j_if_ne (tgt := 12) K dX1_checkState_1 rfl (by omega) (fun c_1 => ?_) (fun c_1 => ?_)
  · exact z_vret K (by omega) (by omega) (Or.inl ⟨by omega, rfl, rfl⟩) dX1_checkState_12
  · refine z_new K (N) nw_X1_36 hN (by omega) (by omega) (by omega) dX1_checkState_4 ?_
    refine z_dup K dX1_checkState_7 rfl ?_
    refine z_cI (fs := []) K (k1) cI_X1_38 rfl rfl (by omega) (by omega) (by omega) (Nat.le_of_ble_eq_true rfl) dX1_checkState_8 zvX (zvK ?_)
    refine z_athrow K (zup_at _ _ _) rfl dX1_checkState_11 ?_
    exact z_out K rfl (by omega) (by omega) (Or.inr ⟨fun z => z (by omega), rfl, rfl⟩)
theorem x1_checkIndex (hA : Am h) (hv : i32 v) (hN : h N = none) (N8 : 1000 ≤ N) : zMet yX1_checkIndex (ws_ yX1_checkIndex cX1_checkIndex 1 none) 6 [.int (iI v)] h (ckQ (v ≠ 0) 24 h N none) 1 6 := by
  have k1 := j15_init (h := zup h N (.inr (24, [.null, .null, .null, .null, .null, .int 0]))) (q := N) (hA.up N8) (zup_at _ _ _) N8
  rw [thL_up N8, zup_zup] at k1
  refine zMet.of (by decide) (Nat.le_of_ble_eq_true rfl) fun X K => ?_
  refine z_iload_n K dX1_checkIndex_0 rfl rfl ?_
  refine j_if_ne (tgt := 12) K dX1_checkIndex_1 rfl (by omega) (fun c_1 => ?_) (fun c_1 => ?_)
  · exact z_vret K (by omega) (by omega) (Or.inl ⟨by omega, rfl, rfl⟩) dX1_checkIndex_12
  · refine z_new K (N) nw_X1_30 hN (by omega) (by omega) (by omega) dX1_checkIndex_4 ?_
    refine z_dup K dX1_checkIndex_7 rfl ?_
    refine z_cI (fs := []) K (k1) cI_X1_32 rfl rfl (by omega) (by omega) (by omega) (Nat.le_of_ble_eq_true rfl) dX1_checkIndex_8 zvX (zvK ?_)
    refine z_athrow K (zup_at _ _ _) rfl dX1_checkIndex_11 ?_
    exact z_out K rfl (by omega) (by omega) (Or.inr ⟨fun z => z (by omega), rfl, rfl⟩)
theorem x1_checkElement (hA : Am h) (hv : i32 v) (hN : h N = none) (N8 : 1000 ≤ N) : zMet yX1_checkElement (ws_ yX1_checkElement cX1_checkElement 1 none) 6 [.int (iI v)] h (ckQ (v ≠ 0) 25 h N none) 1 6 := by
  have k1 := j19_init (h := zup h N (.inr (25, [.null, .null, .null, .null, .null, .int 0]))) (q := N) (hA.up N8) (zup_at _ _ _) N8
  rw [thL_up N8, zup_zup] at k1
  refine zMet.of (by decide) (Nat.le_of_ble_eq_true rfl) fun X K => ?_
  refine z_iload_n K dX1_checkElement_0 rfl rfl ?_
  refine j_if_ne (tgt := 12) K dX1_checkElement_1 rfl (by omega) (fun c_1 => ?_) (fun c_1 => ?_)
  · exact z_vret K (by omega) (by omega) (Or.inl ⟨by omega, rfl, rfl⟩) dX1_checkElement_12
  · refine z_new K (N) nw_X1_33 hN (by omega) (by omega) (by omega) dX1_checkElement_4 ?_
    refine z_dup K dX1_checkElement_7 rfl ?_
    refine z_cI (fs := []) K (k1) cI_X1_35 rfl rfl (by omega) (by omega) (by omega) (Nat.le_of_ble_eq_true rfl) dX1_checkElement_8 zvX (zvK ?_)
    refine z_athrow K (zup_at _ _ _) rfl dX1_checkElement_11 ?_
    exact z_out K rfl (by omega) (by omega) (Or.inr ⟨fun z => z (by omega), rfl, rfl⟩)
end XCl
section XCm
variable {b N : Nat} {u w : tW} {g : zH}
/-- the cells that a method of the component finds -/
theorem CG.am (h : CG b N u g w) : Am (sH b u g) := h.2.2.1.sh (by have := h.1; omega)
theorem CG.fr (h : CG b N u g w) : sH b u g N = none := (sH_out (by have := h.2.1; omega)).trans (h.2.2.2.1 N (Nat.le_refl _))
theorem CG.A (h : CG b N u g w) : WfA (u 0) := h.2.2.2.2.2.1.1
theorem CG.O (h : CG b N u g w) : WfO (u 0) := h.2.2.2.2.2.1.2.1
theorem CG.C (h : CG b N u g w) : ACy (u 0) (oB 0) := h.2.2.2.2.2.1.2.2.1
theorem CG.row (h : CG b N u g w) : u 0 = w 0 := h.2.2.2.2.1
theorem CG.bk (h : CG b N u g w) : BkOk b u g := h.2.2.2.2.2.2.1
theorem CG.n8 (h : CG b N u g w) : 1000 ≤ b ∧ 1100 ≤ b ∧ b + 72 ≤ N ∧ 1000 ≤ N := by have := h.1; have := h.2.1; omega
theorem x1_jobAt {j : Int} (hC : CG b N u g w) (hj : i32 j) : zMet yX1_jobAt (ws_ yX1_jobAt cX1_jobAt 2 (some (.object "SetupJobShop$Job"))) 7 [.ref 1040, .int (iI j)] (sH b u g) (ckQ (0 ≤ j ∧ j ≤ u 0 0 - 1) 24 (sH b u g) N (some (.ref (b + 32 + j.toNat)))) 1 6 := by
  obtain ⟨sv, T, fl, cl, hx⟩ := hC.x
  have n8 := hC.n8
  have h05 := hC.A.1.1
  have k1 := x1_inG (h := sH b u g) (x := j) (a := 0) (b := u 0 0 - 1) hj (by omega) (by omega)
  have k2 := x1_checkIndex (h := sH b u g) (N := N) (v := bI (0 ≤ j ∧ j ≤ u 0 0 - 1)) hC.am (b01r _) hC.fr n8.2.2.2
  refine zMet.of (by decide) (Nat.le_of_ble_eq_true rfl) fun X K => ?_
  refine z_iload_n K dX1_jobAt_0 rfl rfl ?_
  refine j_iconst K dX1_jobAt_1 ?_
  refine z_aload_n K dX1_jobAt_2 rfl rfl rfl ?_
  refine z_get K fd_X1_16_1 (hx) rfl dX1_jobAt_3 ?_
  refine z_get K fd_X1_39_2 (sH_shop) rfl dX1_jobAt_6 ?_
  refine z_callV K (jl_size sH_jobs) cV_X1_43_J2 (sH_jobs) rfl rfl rfl (by omega) (by omega) (by omega) (Nat.le_of_ble_eq_true rfl) dX1_jobAt_9 zrX (zrK ?_)
  refine j_iconst K dX1_jobAt_12 ?_
  refine j_isub K dX1_jobAt_13 ?_
  refine z_callS K (k1) cS_X1_3 rfl rfl (by omega) (by omega) (by omega) (Nat.le_of_ble_eq_true rfl) dX1_jobAt_14 zrX (zrK ?_)
  refine z_callS K (k2) cS_X1_49 rfl rfl (by omega) (by omega) (by omega) (Nat.le_of_ble_eq_true rfl) dX1_jobAt_17 (ckX fun ck_17 => z_out K rfl (by omega) (by omega) (Or.inr ⟨fun q => ck_17 (by rw [show bI (0 ≤ j ∧ j ≤ u 0 0 - 1) = 1 from if_pos q]; decide), rfl, rfl⟩)) (ckK fun ck_17 => ?_)
  have hjj := bI_n ck_17
  refine z_aload_n K dX1_jobAt_20 rfl rfl rfl ?_
  refine z_get K fd_X1_16_1 (hx) rfl dX1_jobAt_21 ?_
  refine z_get K fd_X1_39_2 (sH_shop) rfl dX1_jobAt_24 ?_
  refine z_iload_n K dX1_jobAt_27 rfl rfl ?_
  refine z_callV K (gt_jobs ⟨by omega, by omega⟩ (by omega)) cV_X1_53_J2 (sH_jobs) rfl rfl rfl (by omega) (by omega) (by omega) (Nat.le_of_ble_eq_true rfl) dX1_jobAt_28 zrX (zrK ?_)
  refine z_castS K (sH_job ⟨by omega, by omega⟩ (by omega)) rfl q773 dX1_jobAt_31 ?_
  exact z_aret K (by simp) rfl (by omega) (by omega) (Or.inl ⟨hjj, rfl, rfl⟩) dX1_jobAt_34
theorem x1_operationAt {j : Int} (hC : CG b N u g w) (hj : i32 j) : zMet yX1_operationAt (ws_ yX1_operationAt cX1_operationAt 2 (some (.object "SetupJobShop$Operation"))) 7 [.ref 1040, .int (iI j)] (sH b u g) (ckQ (0 ≤ j ∧ j ≤ u 0 1 - 1) 24 (sH b u g) N (some (.ref (b + 52 + j.toNat)))) 1 6 := by
  obtain ⟨sv, T, fl, cl, hx⟩ := hC.x
  have n8 := hC.n8
  have h20 := hC.A.2.1.1
  have k1 := x1_inG (h := sH b u g) (x := j) (a := 0) (b := u 0 1 - 1) hj (by omega) (by omega)
  have k2 := x1_checkIndex (h := sH b u g) (N := N) (v := bI (0 ≤ j ∧ j ≤ u 0 1 - 1)) hC.am (b01r _) hC.fr n8.2.2.2
  refine zMet.of (by decide) (Nat.le_of_ble_eq_true rfl) fun X K => ?_
  refine z_iload_n K dX1_operationAt_0 rfl rfl ?_
  refine j_iconst K dX1_operationAt_1 ?_
  refine z_aload_n K dX1_operationAt_2 rfl rfl rfl ?_
  refine z_get K fd_X1_16_1 (hx) rfl dX1_operationAt_3 ?_
  refine z_get K fd_X1_59_2 (sH_shop) rfl dX1_operationAt_6 ?_
  refine z_callV K (jl_size sH_ops) cV_X1_43_J2 (sH_ops) rfl rfl rfl (by omega) (by omega) (by omega) (Nat.le_of_ble_eq_true rfl) dX1_operationAt_9 zrX (zrK ?_)
  refine j_iconst K dX1_operationAt_12 ?_
  refine j_isub K dX1_operationAt_13 ?_
  refine z_callS K (k1) cS_X1_3 rfl rfl (by omega) (by omega) (by omega) (Nat.le_of_ble_eq_true rfl) dX1_operationAt_14 zrX (zrK ?_)
  refine z_callS K (k2) cS_X1_49 rfl rfl (by omega) (by omega) (by omega) (Nat.le_of_ble_eq_true rfl) dX1_operationAt_17 (ckX fun ck_17 => z_out K rfl (by omega) (by omega) (Or.inr ⟨fun q => ck_17 (by rw [show bI (0 ≤ j ∧ j ≤ u 0 1 - 1) = 1 from if_pos q]; decide), rfl, rfl⟩)) (ckK fun ck_17 => ?_)
  have hjj := bI_n ck_17
  refine z_aload_n K dX1_operationAt_20 rfl rfl rfl ?_
  refine z_get K fd_X1_16_1 (hx) rfl dX1_operationAt_21 ?_
  refine z_get K fd_X1_59_2 (sH_shop) rfl dX1_operationAt_24 ?_
  refine z_iload_n K dX1_operationAt_27 rfl rfl ?_
  refine z_callV K (gt_ops ⟨by omega, by omega⟩ (by omega)) cV_X1_53_J2 (sH_ops) rfl rfl rfl (by omega) (by omega) (by omega) (Nat.le_of_ble_eq_true rfl) dX1_operationAt_28 zrX (zrK ?_)
  refine z_castS K (sH_op ⟨by omega, by omega⟩ (by omega)) rfl q468 dX1_operationAt_31 ?_
  exact z_aret K (by simp) rfl (by omega) (by omega) (Or.inl ⟨hjj, rfl, rfl⟩) dX1_operationAt_34
theorem x1_orderOf {j : Int} (hC : CG b N u g w) (hj : i32 j) : zMet yX1_orderOf (ws_ yX1_orderOf cX1_orderOf 2 (some (.object "SetupJobShop$Order"))) 7 [.ref 1040, .int (iI j)] (sH b u g) (ckQ (0 ≤ j ∧ j ≤ 3) 24 (sH b u g) N (some (.ref (b + 20 + j.toNat)))) 1 6 := by
  obtain ⟨sv, T, fl, cl, hx⟩ := hC.x
  have n8 := hC.n8
  have k1 := x1_inG (h := sH b u g) (x := j) (a := 0) (b := 3) hj (by omega) (by omega)
  have k2 := x1_checkIndex (h := sH b u g) (N := N) (v := bI (0 ≤ j ∧ j ≤ 3)) hC.am (b01r _) hC.fr n8.2.2.2
  refine zMet.of (by decide) (Nat.le_of_ble_eq_true rfl) fun X K => ?_
  refine z_iload_n K dX1_orderOf_0 rfl rfl ?_
  refine j_iconst K dX1_orderOf_1 ?_
  refine j_iconst K dX1_orderOf_2 ?_
  refine z_callS K (k1) cS_X1_3 rfl rfl (by omega) (by omega) (by omega) (Nat.le_of_ble_eq_true rfl) dX1_orderOf_3 zrX (zrK ?_)
  refine z_callS K (k2) cS_X1_49 rfl rfl (by omega) (by omega) (by omega) (Nat.le_of_ble_eq_true rfl) dX1_orderOf_6 (ckX fun ck_6 => z_out K rfl (by omega) (by omega) (Or.inr ⟨fun q => ck_6 (by rw [show bI (0 ≤ j ∧ j ≤ 3) = 1 from if_pos q]; decide), rfl, rfl⟩)) (ckK fun ck_6 => ?_)
  have hjj := bI_n ck_6
  refine z_aload_n K dX1_orderOf_9 rfl rfl rfl ?_
  refine z_get K fd_X1_16_1 (hx) rfl dX1_orderOf_10 ?_
  refine z_get K fd_X1_64_2 (sH_shop) rfl dX1_orderOf_13 ?_
  refine z_iload_n K dX1_orderOf_16 rfl rfl ?_
  refine z_callV K (gt_ord ⟨by omega, by omega⟩) cV_X1_53_J2 (sH_ords) rfl rfl rfl (by omega) (by omega) (by omega) (Nat.le_of_ble_eq_true rfl) dX1_orderOf_17 zrX (zrK ?_)
  refine z_castS K (sH_ord ⟨by omega, by omega⟩) rfl q917 dX1_orderOf_20 ?_
  exact z_aret K (by simp) rfl (by omega) (by omega) (Or.inl ⟨hjj, rfl, rfl⟩) dX1_orderOf_23
/-- a whole schedule stands in the shop -/
def Sch (s : Nat → Int) (u : tW) (rd st : Nat → Int) : Prop := SF u (oB 0) rd st ∧ Tp s (oB 0) (-1) 0 rd st ∧ Tq s (oB 0) st ∧ cntU st (s 1).toNat = 0 ∧ (∀ i : Nat, (i : Int) < s 1 → -1 ≤ st i ∧ st i ≤ 1300) ∧ u 5 0 = gEnd s st (s 1).toNat
theorem x1_compute (hC : CG b N u g w) : zMet yX1_compute (ws_ yX1_compute cX1_compute 2 (some .int)) 7 [.ref 1040] (sH b u g) (fun z h' => ∃ u' rd st, z = .inl (some (.int (iI (gEnd (u 0) st (u 0 1).toNat)))) ∧ h' = sH b u' g ∧ SK u u' ∧ Sch (u 0) u' rd st) 0 0 := by
  obtain ⟨sv, T, fl, cl, hx⟩ := hC.x
  have n8 := hC.n8
  have h52 := hC.2.2.2.2.2.2.2.1
  have h53 := hC.2.2.2.2.2.2.2.2.1
  have k1 := x2_isScheduled (b := b) (u := u) (g := g) (a := 0) (bb := 500) (by decide) n8.1 (by omega) (Or.inl h52) hC.A hC.O hC.bk (by omega) h53
  refine zMet.of (by decide) (Nat.le_of_ble_eq_true rfl) fun X K => ?_
  refine z_aload_n K dX1_compute_0 rfl rfl rfl ?_
  refine z_get K fd_X1_16_1 (by first | exact hx | exact hx') rfl dX1_compute_1 ?_
  refine j_iconst K dX1_compute_4 ?_
  refine z_callV K k1 cV_X1_69_X2 sH_shop rfl rfl rfl (by omega) (by omega) (by omega) (Nat.le_of_ble_eq_true rfl) dX1_compute_5 (fun q h1 hq => by obtain ⟨_, _, _, z, -⟩ := hq; cases z) (fun v h1 hq => ?_)
  obtain ⟨u', rd, st, z, rfl, sk, sr, tp, tq, hb9⟩ := hq
  cases z
  have h0 := hC.C.u0 hC.A hC.O tq
  have tp0 : Tp (u 0) (oB 0) (-1) 0 rd st := by rw [h52] at tp; exact tp.hu0
  have mk : u' 5 0 = gEnd (u 0) st (u 0 1).toNat := by rw [← gMx_all _ h0]; exact sr.2.2.2.2.1
  have hx' : sH b u' g 1040 = some (oX b sv T fl cl (w 10 0)) := (sH_out (by omega)).trans ((sH_out (b := b) (u := u) (g := g) (by omega)).symm.trans hx)
  refine z_istore_n K dX1_compute_8 rfl (by decide) rfl ?_
  refine z_aload_n K dX1_compute_9 rfl rfl rfl ?_
  refine z_get K fd_X1_16_1 (by first | exact hx | exact hx') rfl dX1_compute_10 ?_
  refine z_get K fd_X1_73_2 (sH_shop) rfl dX1_compute_13 ?_
  rw [mk]
  exact z_iret K (by omega) (by omega) (⟨u', rd, st, rfl, rfl, sk, sr.sf h0 hb9 (by decide), tp0, tq, h0, fun i hi => hb9 i hi, mk⟩) dX1_compute_16
end XCm

