/-! ===== the component's operations: jobs and operations are made; properties ===== -/
section XO4
variable {b N : Nat} {u u' w : tW} {g h0 : zH}
theorem BkOk.cr (h : BkOk b u g) (k : crS u u') : BkOk b u' g := by
  intro m q m0 m1 q0 q1
  rw [k.2.1 _ (by omega) (by omega)] at q1
  have hq : m = 0 ∨ m = 1 ∨ m = 2 ∨ m = 3 := by omega
  obtain ⟨a1, a2, a3, a4⟩ := h m q m0 m1 q0 q1
  rw [k.1 7 (by decide) (by decide), k.1 8 (by decide) (by decide)]
  refine ⟨a1, a2, a3, ?_⟩
  rw [a4]
  by_cases h3 : q < 3
  · rw [k.2.1 (155 + 3 * m + q).toNat (by omega) (by omega), k.2.1 (167 + 3 * m + q).toNat (by omega) (by omega)]
  · exfalso
    exact h3 (h3.elim (by
      have := k.2.2.1.2.2.2.2.2 m m0 m1
      unfold sBn at this
      rw [k.2.1 _ (by omega) (by omega)] at this
      omega))
theorem sw.job {a c d : Int} : sw w (wJob (tset w 3 0 0) a c d) := fun f h _ c => (wJob_f (by omega)).trans (sw.set f h (by assumption) c)
theorem sw.op {j m a c : Int} : sw w (wOp (tset w 3 0 0) j m a c) := fun f h _ c => (wOp_f (by omega)).trans (sw.set f h (by assumption) c)
theorem jp3 {a c d : Int} : (jpOk 0 a ∧ jpOk 1 c ∧ jpOk 2 d) ↔ isJV a c d := by
  unfold jpOk isJV
  simp
theorem x1_addJob {a c d : Int} (hC : CG b N u g w) (ha : i32 a) (hc : i32 c) (hd : i32 d) : zMet yX1_addJob (ws_ yX1_addJob cX1_addJob 4 (some .int)) 9 [.ref 1040, .int (iI a), .int (iI c), .int (iI d)] (sH b u g) (cQ (sH b u g) (fun v w' => pub w (tcAddJob w a c d) (w 0 0) (wJob (tset w 3 0 0) a c d) w' v) (cdA 22 23 99)) 7 60 := by
  obtain ⟨sv, T, fl, cl, hx⟩ := hC.xg
  have n8 := hC.n8
  have h05 := hC.A.1.1
  have kv := x1_areJobValues (h := sH b u g) ha hc hd
  have k2 := x1_check (h := sH b u g) (N := N) (v := bI (isJV a c d)) hC.am (b01r _) hC.fr n8.2.2.2
  have kc := fun v hv => x1_checkState (h := sH b u g) (N := N) (v := v) hC.am hv hC.fr n8.2.2.2
  obtain ⟨k, hk⟩ : ∃ k : Nat, u 0 0 = k := ⟨(u 0 0).toNat, by omega⟩
  have hk' : w 0 0 = k := by rw [← hC.row]; exact hk
  generalize hR : (fun v w' => pub w (tcAddJob w a c d) (w 0 0) (wJob (tset w 3 0 0) a c d) w' v) = R
  have hex : ¬ isJV a c d → cQ (sH b u g) R (cdA 22 23 99) (.inr N) (zup (sH b u g) N (oEx 22 (sH b u g) N)) := fun ck => cQ.ex hC hC.lo (by decide) (fun v' w' r => by rw [← hR] at r; exact pub.ex r (if_pos (bP_f (fun z => ck (jp3.mp z)))) (by decide))
  have hex2 : isJV a c d → k = 5 → cQ (sH b u g) R (cdA 22 23 99) (.inr N) (zup (sH b u g) N (oEx 23 (sH b u g) N)) := fun c1 ck => cQ.ex hC hC.lo (by decide) (fun v' w' r => by rw [← hR] at r; exact pub.ex r ((if_neg (by rw [bP_t (jp3.mpr c1)]; decide)).trans (if_pos (by omega))) (by decide))
  have hok : isJV a c d → k < 5 → ∀ v : Int, v = k → cQ (sH b u g) R (cdA 22 23 99) (.inl (some (.int (iI v)))) (sH b (wNJ u k a c d) g) := fun c1 c2 v e => by
    obtain ⟨sj, ej⟩ := crS.nj (r := a) (d := c) (w := d) hC.2.2.2.2.2.1 hk c2 c1
    refine cQ.sh hC hC.lo sj.2.2 (hC.bk.cr sj) (sj.1 5 (by decide) (by decide)) (sj.1 3 (by decide) (by decide)) (fun v' w' r => ?_)
    rw [← hR] at r
    obtain ⟨r1, rfl⟩ := pub.at r ((if_neg (by rw [bP_t (jp3.mpr c1)]; decide)).trans (if_neg (by omega)))
    exact ⟨(congrFun (wJob_f (by decide)) 0).trans set3_3, by rw [r1, e, hk'], sw.job, by rw [ej, wJob_0, set3_0, hC.row]⟩
  refine zMet.of (by decide) (Nat.le_of_ble_eq_true rfl) fun X K => ?_
  have bad : isJV a c d → k = 5 → ∀ env, zsub env [] → zW X (cQ (sH b u g) R (cdA 22 23 99)) (sH b u g) 1 6 27 env [] := by
    intro h1 h2 env he
    refine zW.cut he ?_
    have kc0 := kc 0 (by omega)
    refine j_iconst K dX1_addJob_27 ?_
    refine z_callS K (kc0) cS_X1_83 rfl rfl (by omega) (by omega) (by omega) (Nat.le_of_ble_eq_true rfl) dX1_addJob_28 (ckX fun ck_28 => z_out K rfl (by omega) (by omega) (hex2 h1 h2)) (ckK fun ck_28 => ?_)
    exact absurd rfl ck_28
  have kc1 := kc 1 (by omega)
  have ni := fun k5 : k < 5 => nj_init (r := a) (d := c) (w := d) (g := g) n8.1 hC.2.2.1 hk k5
  have na := fun k5 : k < 5 => nj_add (r := a) (d := c) (w := d) (g := g) n8.1 hC.2.2.1 hk k5
  have fr := fun k5 : k < 5 => nj_free (b := b) (g := g) hk k5
  refine z_iload_n K dX1_addJob_0 rfl rfl ?_
  refine z_iload_n K dX1_addJob_1 rfl rfl ?_
  refine z_iload_n K dX1_addJob_2 rfl rfl ?_
  refine z_callS K (kv) cS_X1_77 rfl rfl (by omega) (by omega) (by omega) (Nat.le_of_ble_eq_true rfl) dX1_addJob_3 zrX (zrK ?_)
  refine z_callS K (k2) cS_X1_80 rfl rfl (by omega) (by omega) (by omega) (Nat.le_of_ble_eq_true rfl) dX1_addJob_6 (ckX fun ck_6 => z_out K rfl (by omega) (by omega) (hex (fun q => ck_6 (by rw [show bI (isJV a c d) = 1 from if_pos q]; decide)))) (ckK fun ck_6 => ?_)
  have ck := bI_n ck_6
  refine z_aload_n K dX1_addJob_9 rfl rfl rfl ?_
  refine z_get K fd_X1_16_1 (hx _) rfl dX1_addJob_10 ?_
  refine z_get K fd_X1_39_2 (sH_shop) rfl dX1_addJob_13 ?_
  refine z_callV K (jl_size sH_jobs) cV_X1_43_J2 (sH_jobs) rfl rfl rfl (by omega) (by omega) (by omega) (Nat.le_of_ble_eq_true rfl) dX1_addJob_16 zrX (zrK ?_)
  refine j_iconst K dX1_addJob_19 ?_
  refine j_icmp_ge (tgt := 27) K dX1_addJob_20 rfl (by omega) (by omega) (fun c_20 => ?_) (fun c_20 => ?_)
  · exact bad ck (by omega) _ trivial
  · refine j_iconst K dX1_addJob_23 ?_
    refine z_goto (tgt := 28) K dX1_addJob_24 rfl ?_
    refine z_callS K (kc1) cS_X1_83 rfl rfl (by omega) (by omega) (by omega) (Nat.le_of_ble_eq_true rfl) dX1_addJob_28 (ckX fun ck_28 => absurd (by decide) ck_28) (ckK fun ck_28 => ?_)
    have k5 : k < 5 := by omega
    refine z_aload_n K dX1_addJob_31 rfl rfl rfl ?_
    refine z_get K fd_X1_16_1 (hx _) rfl dX1_addJob_32 ?_
    refine z_get K fd_X1_39_2 (sH_shop) rfl dX1_addJob_35 ?_
    refine z_new K (b + 32 + k) nw_X1_57 (fr k5) (by omega) (by omega) (by omega) dX1_addJob_38 ?_
    refine z_dup K dX1_addJob_41 rfl ?_
    refine z_iload_n K dX1_addJob_42 rfl rfl ?_
    refine z_iload_n K dX1_addJob_43 rfl rfl ?_
    refine z_iload_n K dX1_addJob_44 rfl rfl ?_
    refine z_cI (fs := []) K (ni k5) cI_X1_86 rfl rfl (by omega) (by omega) (by omega) (Nat.le_of_ble_eq_true rfl) dX1_addJob_45 zvX (zvK ?_)
    refine z_callV K (na k5) cV_X1_89_J2 (nj_l) rfl rfl rfl (by omega) (by omega) (by omega) (Nat.le_of_ble_eq_true rfl) dX1_addJob_48 zrX (zrK ?_)
    refine z_pop K dX1_addJob_51 rfl ?_
    refine z_aload_n K dX1_addJob_52 rfl rfl rfl ?_
    refine z_get K fd_X1_16_1 (hx _) rfl dX1_addJob_53 ?_
    refine z_get K fd_X1_39_2 (sH_shop) rfl dX1_addJob_56 ?_
    refine z_callV K (jl_size sH_jobs) cV_X1_43_J2 (sH_jobs) rfl rfl rfl (by omega) (by omega) (by omega) (Nat.le_of_ble_eq_true rfl) dX1_addJob_59 zrX (zrK ?_)
    refine j_iconst K dX1_addJob_62 ?_
    refine j_isub K dX1_addJob_63 ?_
    exact z_iret K (by omega) (by omega) (hok ck k5 _ (by rw [wNJ_0]; show u 0 0 + 1 - 1 = _; omega)) dX1_addJob_64
theorem x2_addOp {j m d f : Int} (hb : 1000 ≤ b) (hAm : Am g) (hA : WfA (u 0)) (hO : WfO (u 0)) (hj : 0 ≤ j ∧ j < u 0 0) (hc : opOk (u 0) j m d f) : zMet yX2_addOperation (ws_ yX2_addOperation cX2_addOperation 7 (some .int)) 8 [.ref b, .int (iI j), .int (iI m), .int (iI d), .int (iI f)] (sH b u g) (zRet (.int (iI (u 0 1))) (sH b (wNO u j.toNat m.toNat d f) g)) 3 50 := by
  have hm2 := hc.1
  have hl := (hA.1.2 j hj.1 hj.2).2.2.2
  have hL4 : sLen (u 0) j < 4 := by have := hc.2.2.1; omega
  have r1 := room_op hA hj hL4
  have r2 := room_on hA hO hj hm2 hc.no
  have hk9 := hA.2.1.1
  have hn9 := (hO m hm2.1 hm2.2).1
  have hr9 := (hO m hm2.1 hm2.2).2.1
  have k6 := x2_addOperation (b := b) (g := g) (u := u) (j := j.toNat) (m := m.toNat) (k := (u 0 1).toNat) (n := (sOn (u 0) m).toNat) (L := (sLen (u 0) j).toNat) (d := d) (f := f) hb hAm hA.1 (by omega) (by rw [show 17 + j.toNat = (17 + j).toNat by omega]; unfold sLen at hl ⊢; omega) (by rw [show 179 + m.toNat = (179 + m).toNat by omega]; unfold sOn at hn9 ⊢; omega) (by omega) (by omega) (by omega) (by omega) (by omega) (fun p hp => by
    have := (hr9 p (by omega) (by omega)).1
    unfold sOr at this
    rw [show 183 + 5 * m.toNat + p = (183 + 5 * m + p).toNat by omega]
    omega)
  rw [show ((j.toNat : Nat) : Int) = j by omega, show ((m.toNat : Nat) : Int) = m by omega, show (((u 0 1).toNat : Nat) : Int) = u 0 1 by omega] at k6
  exact k6
theorem x1_addOperation {j m d f : Int} (hC : CG b N u g w) (hj : i32 j) (hm : i32 m) (hd : i32 d) (hf : i32 f) : zMet yX1_addOperation (ws_ yX1_addOperation cX1_addOperation 5 (some .int)) 9 [.ref 1040, .int (iI j), .int (iI m), .int (iI d), .int (iI f)] (sH b u g) (cQ (sH b u g) (fun v w' => pub w (tcAddOp w j m d f) (w 0 1) (wOp (tset w 3 0 0) j m d f) w' v) (cdA 24 22 23)) 7 90 := by
  obtain ⟨sv, T, fl, cl, hx⟩ := hC.xg
  have n8 := hC.n8
  have h05 := hC.A.1.1
  have h20 := hC.A.2.1.1
  have k1 := x1_inG (h := sH b u g) (x := j) (a := 0) (b := u 0 0 - 1) hj (by omega) (by omega)
  have k2 := x1_inG (h := sH b u g) (x := m) (a := 0) (b := 3) hm (by omega) (by omega)
  have k3 := x1_inG (h := sH b u g) (x := d) (a := 1) (b := 30) hd (by omega) (by omega)
  have k4 := x1_inG (h := sH b u g) (x := f) (a := 0) (b := 2) hf (by omega) (by omega)
  have kc := fun v hv => x1_checkIndex (h := sH b u g) (N := N) (v := v) hC.am hv hC.fr n8.2.2.2
  have kd := fun v hv => x1_check (h := sH b u g) (N := N) (v := v) hC.am hv hC.fr n8.2.2.2
  have ke := fun v hv => x1_checkState (h := sH b u g) (N := N) (v := v) hC.am hv hC.fr n8.2.2.2
  have e0 := hC.row
  generalize hR : (fun v w' => pub w (tcAddOp w j m d f) (w 0 1) (wOp (tset w 3 0 0) j m d f) w' v) = R
  have hex : ¬ ((0 ≤ j ∧ j ≤ u 0 0 - 1) ∧ 0 ≤ m ∧ m ≤ 3) → cQ (sH b u g) R (cdA 24 22 23) (.inr N) (zup (sH b u g) N (oEx 24 (sH b u g) N)) := fun ck => cQ.ex hC hC.lo (by decide) (fun v' w' r => by rw [← hR] at r; exact pub.ex r (if_pos (by rw [← e0]; exact ck)) (by decide))
  have hex2 : ((0 ≤ j ∧ j ≤ u 0 0 - 1) ∧ 0 ≤ m ∧ m ≤ 3) → ¬ ((1 ≤ d ∧ d ≤ 30) ∧ 0 ≤ f ∧ f ≤ 2) → cQ (sH b u g) R (cdA 24 22 23) (.inr N) (zup (sH b u g) N (oEx 22 (sH b u g) N)) := fun c1 ck => cQ.ex hC hC.lo (by decide) (fun v' w' r => by rw [← hR] at r; exact pub.ex r ((if_neg (not_not_intro (by rw [← e0]; exact c1))).trans (if_pos ck)) (by decide))
  have hex3 : ((0 ≤ j ∧ j ≤ u 0 0 - 1) ∧ 0 ≤ m ∧ m ≤ 3) → ((1 ≤ d ∧ d ≤ 30) ∧ 0 ≤ f ∧ f ≤ 2) → ¬ opOk (u 0) j m d f → cQ (sH b u g) R (cdA 24 22 23) (.inr N) (zup (sH b u g) N (oEx 23 (sH b u g) N)) := fun c1 c2 ck => cQ.ex hC hC.lo (by decide) (fun v' w' r => by
    rw [← hR] at r
    refine pub.ex r ((if_neg (not_not_intro (by rw [← e0]; exact c1))).trans ((if_neg (not_not_intro c2)).trans (if_pos ?_))) (by decide)
    rw [← e0]
    by_cases z : u 0 (17 + j).toNat = 4
    · exact Or.inl z
    · exact Or.inr (fun z2 => ck ⟨c1.2, c2, z, z2⟩))
  have hok : ((0 ≤ j ∧ j ≤ u 0 0 - 1) ∧ 0 ≤ m ∧ m ≤ 3) → opOk (u 0) j m d f → cQ (sH b u g) R (cdA 24 22 23) (.inl (some (.int (iI (u 0 1))))) (sH b (wNO u j.toNat m.toNat d f) g) := fun c1 c2 => by
    obtain ⟨sj, ej⟩ := crS.no hC.2.2.2.2.2.1 (by omega) c2
    refine cQ.sh hC hC.lo sj.2.2 (hC.bk.cr sj) (sj.1 5 (by decide) (by decide)) (sj.1 3 (by decide) (by decide)) (fun v' w' r => ?_)
    rw [← hR] at r
    obtain ⟨r1, rfl⟩ := pub.at r ((if_neg (not_not_intro (by rw [← e0]; exact c1))).trans ((if_neg (not_not_intro c2.2.1)).trans (if_neg (by rw [← e0]; exact fun z => z.elim c2.2.2.1 (fun z => z c2.2.2.2)))))
    exact ⟨(congrFun (wOp_f (by decide)) 0).trans set3_3, by rw [r1, e0], sw.op, by rw [ej, wOp_0, set3_0, e0]⟩
  refine zMet.of (by decide) (Nat.le_of_ble_eq_true rfl) fun X K => ?_
  have bad : ¬ ((0 ≤ j ∧ j ≤ u 0 0 - 1) ∧ 0 ≤ m ∧ m ≤ 3) → ∀ env, zsub env [] → zW X (cQ (sH b u g) R (cdA 24 22 23)) (sH b u g) 0 0 33 env [] := by
    intro h1 env he
    refine zW.cut he ?_
    have kc0 := kc 0 (by omega)
    refine j_iconst K dX1_addOperation_33 ?_
    refine z_callS K (kc0) cS_X1_49 rfl rfl (by omega) (by omega) (by omega) (Nat.le_of_ble_eq_true rfl) dX1_addOperation_34 (ckX fun ck_34 => z_out K rfl (by omega) (by omega) (hex h1)) (ckK fun ck_34 => ?_)
    exact absurd rfl ck_34
  have bad2 : ((0 ≤ j ∧ j ≤ u 0 0 - 1) ∧ 0 ≤ m ∧ m ≤ 3) → ¬ ((1 ≤ d ∧ d ≤ 30) ∧ 0 ≤ f ∧ f ≤ 2) → ∀ env, zsub env [] → zW X (cQ (sH b u g) R (cdA 24 22 23)) (sH b u g) 1 6 61 env [] := by
    intro h1 h2 env he
    refine zW.cut he ?_
    have kc0 := kd 0 (by omega)
    refine j_iconst K dX1_addOperation_61 ?_
    refine z_callS K (kc0) cS_X1_80 rfl rfl (by omega) (by omega) (by omega) (Nat.le_of_ble_eq_true rfl) dX1_addOperation_62 (ckX fun ck_62 => z_out K rfl (by omega) (by omega) (hex2 h1 h2)) (ckK fun ck_62 => ?_)
    exact absurd rfl ck_62
  have kc1 := kc 1 (by omega)
  have kd1 := kd 1 (by omega)
  have ka := fun h => x2_canAdd (b := b) (u := u) (g := g) (j := j) (m := m) hC.A h hm
  have last : ((0 ≤ j ∧ j ≤ u 0 0 - 1) ∧ 0 ≤ m ∧ m ≤ 3) → ((1 ≤ d ∧ d ≤ 30) ∧ 0 ≤ f ∧ f ≤ 2) → ∀ env, zsub env [(0, .ref 1040), (1, .int (iI j)), (2, .int (iI m)), (3, .int (iI d)), (4, .int (iI f))] → zW X (cQ (sH b u g) R (cdA 24 22 23)) (sH b u g) 2 12 65 env [] := by
    intro h1 h2 env he
    refine zW.cut he ?_
    have ka1 := ka (by omega)
    by_cases hc : opOk (u 0) j m d f
    · rw [bP_t ⟨hc.2.2.1, bP_n hc.2.2.2⟩] at ka1
      have k6 := x2_addOp n8.1 hC.2.2.1 hC.A hC.O (by omega) hc
      have ke1 := ke 1 (by omega)
      refine z_aload_n K dX1_addOperation_65 rfl rfl rfl ?_
      refine z_get K fd_X1_16_1 (hx _) rfl dX1_addOperation_66 ?_
      refine z_iload_n K dX1_addOperation_69 rfl rfl ?_
      refine z_iload_n K dX1_addOperation_70 rfl rfl ?_
      refine z_callV K (ka1) cV_X1_93_X2 (sH_shop) rfl rfl rfl (by omega) (by omega) (by omega) (Nat.le_of_ble_eq_true rfl) dX1_addOperation_71 zrX (zrK ?_)
      refine z_callS K (ke1) cS_X1_83 rfl rfl (by omega) (by omega) (by omega) (Nat.le_of_ble_eq_true rfl) dX1_addOperation_74 (ckX fun ck_74 => absurd (by decide) ck_74) (ckK fun ck_74 => ?_)
      refine z_aload_n K dX1_addOperation_77 rfl rfl rfl ?_
      refine z_get K fd_X1_16_1 (hx _) rfl dX1_addOperation_78 ?_
      refine z_iload_n K dX1_addOperation_81 rfl rfl ?_
      refine z_iload_n K dX1_addOperation_82 rfl rfl ?_
      refine z_iload_n K dX1_addOperation_83 rfl rfl ?_
      refine z_iload K dX1_addOperation_84 rfl ?_
      refine z_callV K (k6) cV_X1_97_X2 (sH_shop) rfl rfl rfl (by omega) (by omega) (by omega) (Nat.le_of_ble_eq_true rfl) dX1_addOperation_86 zrX (zrK ?_)
      exact z_iret K (by omega) (by omega) (hok h1 hc) dX1_addOperation_89
    · rw [bP_f (fun q => hc ⟨h1.2, h2, q.1, bP_f q.2⟩)] at ka1
      have ke0 := ke 0 (by omega)
      refine z_aload_n K dX1_addOperation_65 rfl rfl rfl ?_
      refine z_get K fd_X1_16_1 (hx _) rfl dX1_addOperation_66 ?_
      refine z_iload_n K dX1_addOperation_69 rfl rfl ?_
      refine z_iload_n K dX1_addOperation_70 rfl rfl ?_
      refine z_callV K (ka1) cV_X1_93_X2 (sH_shop) rfl rfl rfl (by omega) (by omega) (by omega) (Nat.le_of_ble_eq_true rfl) dX1_addOperation_71 zrX (zrK ?_)
      refine z_callS K (ke0) cS_X1_83 rfl rfl (by omega) (by omega) (by omega) (Nat.le_of_ble_eq_true rfl) dX1_addOperation_74 (ckX fun ck_74 => z_out K rfl (by omega) (by omega) (hex3 h1 h2 hc)) (ckK fun ck_74 => ?_)
      exact absurd rfl ck_74
  refine z_iload_n K dX1_addOperation_0 rfl rfl ?_
  refine j_iconst K dX1_addOperation_1 ?_
  refine z_aload_n K dX1_addOperation_2 rfl rfl rfl ?_
  refine z_get K fd_X1_16_1 (hx _) rfl dX1_addOperation_3 ?_
  refine z_get K fd_X1_39_2 (sH_shop) rfl dX1_addOperation_6 ?_
  refine z_callV K (jl_size sH_jobs) cV_X1_43_J2 (sH_jobs) rfl rfl rfl (by omega) (by omega) (by omega) (Nat.le_of_ble_eq_true rfl) dX1_addOperation_9 zrX (zrK ?_)
  refine j_iconst K dX1_addOperation_12 ?_
  refine j_isub K dX1_addOperation_13 ?_
  refine z_callS K (k1) cS_X1_3 rfl rfl (by omega) (by omega) (by omega) (Nat.le_of_ble_eq_true rfl) dX1_addOperation_14 zrX (zrK ?_)
  refine j_if_eq (tgt := 33) K dX1_addOperation_17 rfl (b01r _) (fun c_17 => ?_) (fun c_17 => ?_)
  · exact bad (fun q => by first | exact bI_y c_26 q.2 | exact bI_y c_17 q.1) _ trivial
  · refine z_iload_n K dX1_addOperation_20 rfl rfl ?_
    refine j_iconst K dX1_addOperation_21 ?_
    refine j_iconst K dX1_addOperation_22 ?_
    refine z_callS K (k2) cS_X1_3 rfl rfl (by omega) (by omega) (by omega) (Nat.le_of_ble_eq_true rfl) dX1_addOperation_23 zrX (zrK ?_)
    refine j_if_eq (tgt := 33) K dX1_addOperation_26 rfl (b01r _) (fun c_26 => ?_) (fun c_26 => ?_)
    · exact bad (fun q => by first | exact bI_y c_26 q.2 | exact bI_y c_17 q.1) _ trivial
    · refine j_iconst K dX1_addOperation_29 ?_
      refine z_goto (tgt := 34) K dX1_addOperation_30 rfl ?_
      refine z_callS K (kc1) cS_X1_49 rfl rfl (by omega) (by omega) (by omega) (Nat.le_of_ble_eq_true rfl) dX1_addOperation_34 (ckX fun ck_34 => absurd (by decide) ck_34) (ckK fun ck_34 => ?_)
      have cc := And.intro (bI_n c_17) (bI_n c_26)
      refine z_iload_n K dX1_addOperation_37 rfl rfl ?_
      refine j_iconst K dX1_addOperation_38 ?_
      refine j_bipush K dX1_addOperation_39 (by decide +kernel) ?_
      refine z_callS K (k3) cS_X1_3 rfl rfl (by omega) (by omega) (by omega) (Nat.le_of_ble_eq_true rfl) dX1_addOperation_41 zrX (zrK ?_)
      refine j_if_eq (tgt := 61) K dX1_addOperation_44 rfl (b01r _) (fun c_44 => ?_) (fun c_44 => ?_)
      · exact bad2 cc (fun q => by first | exact bI_y c_54 q.2 | exact bI_y c_44 q.1) _ trivial
      · refine z_iload K dX1_addOperation_47 rfl ?_
        refine j_iconst K dX1_addOperation_49 ?_
        refine j_iconst K dX1_addOperation_50 ?_
        refine z_callS K (k4) cS_X1_3 rfl rfl (by omega) (by omega) (by omega) (Nat.le_of_ble_eq_true rfl) dX1_addOperation_51 zrX (zrK ?_)
        refine j_if_eq (tgt := 61) K dX1_addOperation_54 rfl (b01r _) (fun c_54 => ?_) (fun c_54 => ?_)
        · exact bad2 cc (fun q => by first | exact bI_y c_54 q.2 | exact bI_y c_44 q.1) _ trivial
        · refine j_iconst K dX1_addOperation_57 ?_
          refine z_goto (tgt := 62) K dX1_addOperation_58 rfl ?_
          refine z_callS K (kd1) cS_X1_80 rfl rfl (by omega) (by omega) (by omega) (Nat.le_of_ble_eq_true rfl) dX1_addOperation_62 (ckX fun ck_62 => absurd (by decide) ck_62) (ckK fun ck_62 => ?_)
          exact last cc ⟨bI_n c_44, bI_n c_54⟩ _ ⟨rfl, rfl, rfl, rfl, rfl, trivial⟩
theorem x1_posOf {k : Int} {M : Nat} (hA : WfA (u 0)) (hO : WfO (u 0)) (hk : 0 ≤ k ∧ k < u 0 1) (hM : sMc (u 0) k = M) : zMet yX3_positionOf (ws_ yX3_positionOf cX3_positionOf 3 (some .int)) 1 [.ref (b + 20 + M), .int (iI k)] (sH b u g) (zRet (.int (iI (sPos (u 0) k))) (sH b u g)) 0 0 := by
  have h20 := hA.2.1.1
  have a2 := (hA.2.1.2 k hk.1 hk.2).2.1
  rw [hM] at a2
  obtain ⟨o1, o2, o3, o4⟩ := hO M a2.1 a2.2
  obtain ⟨p1, p2⟩ := hO.pos hk (by rw [hM]; exact a2)
  rw [hM] at p2
  have e9 : ∀ q : Nat, u 0 (183 + 5 * M + q) = sOr (u 0) M q := fun q => congrArg (u 0) (by omega)
  have eo : u 0 (179 + M) = sOn (u 0) M := congrArg (u 0) (by omega)
  have hor := sH_oN (b := b) (u := u) (g := g) (m := M) (by omega)
  rw [eo] at hor
  refine (x3_pos (v := k) hor (sH_rN (by omega)) (by omega) (fun q hq => by have := (o2 q (by omega) hq).1; rw [e9 q]; omega) (by omega)).weaken ?_
  rintro z h' ⟨P, rfl, rfl, q1, q2, q3⟩
  obtain ⟨b1, b2, b3⟩ := p1
  rw [hM] at b2 b3
  have e : (P : Int) = sPos (u 0) k := by
    rcases Int.lt_trichotomy (P : Int) (sPos (u 0) k) with z | z | z
    · exact absurd (by rw [← e9]; exact q3 (by omega)) (b3 P (by omega) z)
    · exact z
    · refine absurd ?_ (q2 (sPos (u 0) k).toNat (by omega))
      rw [e9, show (((sPos (u 0) k).toNat : Nat) : Int) = sPos (u 0) k by omega]
      exact b2
  exact ⟨by rw [e], rfl⟩
theorem x1_property {k a : Int} (hC : CG b N u g w) (hk : i32 k) (ha : i32 a) : zMet yX1_property (ws_ yX1_property cX1_property 4 (some .int)) 8 [.ref 1040, .int (iI k), .int (iI a)] (sH b u g) (cQ (sH b u g) (fun v9 w' => pub w (tcProp w k a) (if a = 5 then sPos (w 0) k else w 0 (42 + 20 * a + k).toNat) (tset w 3 0 0) w' v9) (cdA 24 22 99)) 2 12 := by
  obtain ⟨sv, T, fl, cl, hx⟩ := hC.xg
  have n8 := hC.n8
  have h20 := hC.A.2.1.1
  have k0 := x1_operationAt hC hk
  have e0 := hC.row
  generalize hR : (fun v9 w' => pub w (tcProp w k a) (if a = 5 then sPos (w 0) k else w 0 (42 + 20 * a + k).toNat) (tset w 3 0 0) w' v9) = R
  have hex : ¬ (0 ≤ k ∧ k ≤ u 0 1 - 1) → cQ (sH b u g) R (cdA 24 22 99) (.inr N) (zup (sH b u g) N (oEx 24 (sH b u g) N)) := fun ck => cQ.ex hC hC.lo (by decide) (fun v' w' r => by rw [← hR] at r; exact pub.ex r (if_pos (by rw [← e0]; exact ck)) (by decide))
  have hex2 : (0 ≤ k ∧ k ≤ u 0 1 - 1) → ¬ (0 ≤ a ∧ a ≤ 5) → cQ (sH b u g) R (cdA 24 22 99) (.inr N) (zup (sH b u g) N (oEx 22 (sH b u g) N)) := fun c1 ck => cQ.ex hC hC.lo (by decide) (fun v' w' r => by rw [← hR] at r; exact pub.ex r ((if_neg (not_not_intro (by rw [← e0]; exact c1))).trans (if_pos ck)) (by decide))
  have hok : (0 ≤ k ∧ k ≤ u 0 1 - 1) → (0 ≤ a ∧ a ≤ 5) → ∀ v, v = (if a = 5 then sPos (u 0) k else u 0 (42 + 20 * a + k).toNat) → cQ (sH b u g) R (cdA 24 22 99) (.inl (some (.int (iI v)))) (sH b u g) := fun c1 c2 v e => cQ.ok hC hC.lo (fun v' w' r => by rw [← hR] at r; rw [e, e0]; exact pub.ok r ((if_neg (not_not_intro (by rw [← e0]; exact c1))).trans (if_neg (not_not_intro c2))))
  clear hR
  have k1 := j13_init (h := zup (sH b u g) N (.inr (22, [.null, .null, .null, .null, .null, .int 0]))) (q := N) (hC.am.up n8.2.2.2) (zup_at _ _ _) n8.2.2.2
  rw [thL_up n8.2.2.2, zup_zup] at k1
  refine zMet.of (by decide) (Nat.le_of_ble_eq_true rfl) fun X K => ?_
  by_cases hr : 0 ≤ a ∧ a ≤ 5
  rotate_left
  · have ta : (iI a).toInt = a := iI_toInt ha
    refine z_aload_n K dX1_property_0 rfl rfl rfl ?_
    refine z_iload_n K dX1_property_1 rfl rfl ?_
    refine z_callV K (k0) cV_X1_109_X1 (hx _) rfl rfl rfl (by omega) (by omega) (by omega) (Nat.le_of_ble_eq_true rfl) dX1_property_2 (ckX fun ck_2 => z_out K rfl (by omega) (by omega) (hex ck_2)) (rkK fun ck_2 => ?_)
    refine z_astore_n K dX1_property_5 rfl rfl (by decide) rfl ?_
    refine z_iload_n K dX1_property_6 rfl rfl ?_
    refine z_tableOut (tgt := 91) K dX1_property_7 (by rw [ta]; omega) (by decide) ?_
    refine z_new K (N) nw_X1_27 hC.fr (by omega) (by omega) (by omega) dX1_property_91 ?_
    refine z_dup K dX1_property_94 rfl ?_
    refine z_cI (fs := []) K (k1) cI_X1_29 rfl rfl (by omega) (by omega) (by omega) (Nat.le_of_ble_eq_true rfl) dX1_property_95 zvX (zvK ?_)
    refine z_athrow K (zup_at _ _ _) rfl dX1_property_98 ?_
    exact z_out K rfl (by omega) (by omega) (hex2 ck_2 hr)
  rcases (by omega : a = 0 ∨ a = 1 ∨ a = 2 ∨ a = 3 ∨ a = 4 ∨ a = 5) with rfl | rfl | rfl | rfl | rfl | rfl
  · refine z_aload_n K dX1_property_0 rfl rfl rfl ?_
    refine z_iload_n K dX1_property_1 rfl rfl ?_
    refine z_callV K (k0) cV_X1_109_X1 (hx _) rfl rfl rfl (by omega) (by omega) (by omega) (Nat.le_of_ble_eq_true rfl) dX1_property_2 (ckX fun ck_2 => z_out K rfl (by omega) (by omega) (hex ck_2)) (rkK fun ck_2 => ?_)
    refine z_astore_n K dX1_property_5 rfl rfl (by decide) rfl ?_
    refine z_iload_n K dX1_property_6 rfl rfl ?_
    refine z_tableIn (tgt := 44) (off := 37) K dX1_property_7 (by decide +kernel) (by decide +kernel) (by decide +kernel) (by decide) ?_
    refine z_aload_n K dX1_property_44 rfl rfl rfl ?_
    refine z_get K fd_X1_130_5 (sH_op ⟨by omega, by omega⟩ (by omega)) rfl dX1_property_45 ?_
    exact z_iret K (by omega) (by omega) (hok ck_2 hr _ (by rw [if_neg (by decide)]; exact congrArg (u 0) (by omega))) dX1_property_48
  · refine z_aload_n K dX1_property_0 rfl rfl rfl ?_
    refine z_iload_n K dX1_property_1 rfl rfl ?_
    refine z_callV K (k0) cV_X1_109_X1 (hx _) rfl rfl rfl (by omega) (by omega) (by omega) (Nat.le_of_ble_eq_true rfl) dX1_property_2 (ckX fun ck_2 => z_out K rfl (by omega) (by omega) (hex ck_2)) (rkK fun ck_2 => ?_)
    refine z_astore_n K dX1_property_5 rfl rfl (by decide) rfl ?_
    refine z_iload_n K dX1_property_6 rfl rfl ?_
    refine z_tableIn (tgt := 49) (off := 42) K dX1_property_7 (by decide +kernel) (by decide +kernel) (by decide +kernel) (by decide) ?_
    refine z_aload_n K dX1_property_49 rfl rfl rfl ?_
    refine z_get K fd_X1_133_5 (sH_op ⟨by omega, by omega⟩ (by omega)) rfl dX1_property_50 ?_
    exact z_iret K (by omega) (by omega) (hok ck_2 hr _ (by rw [if_neg (by decide)]; exact congrArg (u 0) (by omega))) dX1_property_53
  · refine z_aload_n K dX1_property_0 rfl rfl rfl ?_
    refine z_iload_n K dX1_property_1 rfl rfl ?_
    refine z_callV K (k0) cV_X1_109_X1 (hx _) rfl rfl rfl (by omega) (by omega) (by omega) (Nat.le_of_ble_eq_true rfl) dX1_property_2 (ckX fun ck_2 => z_out K rfl (by omega) (by omega) (hex ck_2)) (rkK fun ck_2 => ?_)
    refine z_astore_n K dX1_property_5 rfl rfl (by decide) rfl ?_
    refine z_iload_n K dX1_property_6 rfl rfl ?_
    refine z_tableIn (tgt := 54) (off := 47) K dX1_property_7 (by decide +kernel) (by decide +kernel) (by decide +kernel) (by decide) ?_
    refine z_aload_n K dX1_property_54 rfl rfl rfl ?_
    refine z_get K fd_X1_113_5 (sH_op ⟨by omega, by omega⟩ (by omega)) rfl dX1_property_55 ?_
    exact z_iret K (by omega) (by omega) (hok ck_2 hr _ (by rw [if_neg (by decide)]; exact congrArg (u 0) (by omega))) dX1_property_58
  · refine z_aload_n K dX1_property_0 rfl rfl rfl ?_
    refine z_iload_n K dX1_property_1 rfl rfl ?_
    refine z_callV K (k0) cV_X1_109_X1 (hx _) rfl rfl rfl (by omega) (by omega) (by omega) (Nat.le_of_ble_eq_true rfl) dX1_property_2 (ckX fun ck_2 => z_out K rfl (by omega) (by omega) (hex ck_2)) (rkK fun ck_2 => ?_)
    refine z_astore_n K dX1_property_5 rfl rfl (by decide) rfl ?_
    refine z_iload_n K dX1_property_6 rfl rfl ?_
    refine z_tableIn (tgt := 59) (off := 52) K dX1_property_7 (by decide +kernel) (by decide +kernel) (by decide +kernel) (by decide) ?_
    refine z_aload_n K dX1_property_59 rfl rfl rfl ?_
    refine z_get K fd_X1_136_5 (sH_op ⟨by omega, by omega⟩ (by omega)) rfl dX1_property_60 ?_
    exact z_iret K (by omega) (by omega) (hok ck_2 hr _ (by rw [if_neg (by decide)]; exact congrArg (u 0) (by omega))) dX1_property_63
  · refine z_aload_n K dX1_property_0 rfl rfl rfl ?_
    refine z_iload_n K dX1_property_1 rfl rfl ?_
    refine z_callV K (k0) cV_X1_109_X1 (hx _) rfl rfl rfl (by omega) (by omega) (by omega) (Nat.le_of_ble_eq_true rfl) dX1_property_2 (ckX fun ck_2 => z_out K rfl (by omega) (by omega) (hex ck_2)) (rkK fun ck_2 => ?_)
    refine z_astore_n K dX1_property_5 rfl rfl (by decide) rfl ?_
    refine z_iload_n K dX1_property_6 rfl rfl ?_
    refine z_tableIn (tgt := 64) (off := 57) K dX1_property_7 (by decide +kernel) (by decide +kernel) (by decide +kernel) (by decide) ?_
    refine z_aload_n K dX1_property_64 rfl rfl rfl ?_
    refine z_get K fd_X1_139_5 (sH_op ⟨by omega, by omega⟩ (by omega)) rfl dX1_property_65 ?_
    exact z_iret K (by omega) (by omega) (hok ck_2 hr _ (by rw [if_neg (by decide)]; exact congrArg (u 0) (by omega))) dX1_property_68
  · refine z_aload_n K dX1_property_0 rfl rfl rfl ?_
    refine z_iload_n K dX1_property_1 rfl rfl ?_
    refine z_callV K (k0) cV_X1_109_X1 (hx _) rfl rfl rfl (by omega) (by omega) (by omega) (Nat.le_of_ble_eq_true rfl) dX1_property_2 (ckX fun ck_2 => z_out K rfl (by omega) (by omega) (hex ck_2)) (rkK fun ck_2 => ?_)
    refine z_astore_n K dX1_property_5 rfl rfl (by decide) rfl ?_
    refine z_iload_n K dX1_property_6 rfl rfl ?_
    refine z_tableIn (tgt := 69) (off := 62) K dX1_property_7 (by decide +kernel) (by decide +kernel) (by decide +kernel) (by decide) ?_
    have a2 := (hC.A.2.1.2 k ck_2.1 (by omega)).2.1
    unfold sMc at a2
    refine z_aload_n K dX1_property_69 rfl rfl rfl ?_
    refine z_get K fd_X1_16_1 (hx _) rfl dX1_property_70 ?_
    refine z_get K fd_X1_64_2 (sH_shop) rfl dX1_property_73 ?_
    refine z_aload_n K dX1_property_76 rfl rfl rfl ?_
    refine z_get K fd_X1_133_5 (sH_op ⟨by omega, by omega⟩ (by omega)) rfl dX1_property_77 ?_
    refine z_callV K (gt_ord ⟨by omega, by omega⟩) cV_X1_53_J2 (sH_ords) rfl rfl rfl (by omega) (by omega) (by omega) (Nat.le_of_ble_eq_true rfl) dX1_property_80 zrX (zrK ?_)
    refine z_castS K (sH_ord ⟨by omega, by omega⟩) rfl q917 dX1_property_83 ?_
    refine z_iload_n K dX1_property_86 rfl rfl ?_
    refine z_callV K (x1_posOf hC.A hC.O (by omega) (by unfold sMc; omega)) cV_X1_142_X3 (sH_ord ⟨by omega, by omega⟩) rfl rfl rfl (by omega) (by omega) (by omega) (Nat.le_of_ble_eq_true rfl) dX1_property_87 zrX (zrK ?_)
    exact z_iret K (by omega) (by omega) (hok ck_2 hr _ (by rw [if_pos rfl])) dX1_property_90
end XO4

