/-! ===== the component's operations: objectives, slack, utilization ===== -/
theorem waA_cg {rd st rd' st' : Nat → Int} : ∀ n : Nat, (∀ i : Nat, i < n → rd i = rd' i ∧ st i = st' i) → waA rd st n = waA rd' st' n
  | 0, _ => rfl
  | n + 1, h => by
    unfold waA
    rw [waA_cg n (fun i hi => h i (by omega)), (h n (by omega)).1, (h n (by omega)).2]
theorem obA_cg {s st st' : Nat → Int} {a : Int} (hA : WfA s) (h : ∀ k : Int, 0 ≤ k → k < s 1 → st k.toNat = st' k.toNat) : ∀ n : Nat, (n : Int) ≤ s 0 → obA s st a n = obA s st' a n
  | 0, _ => rfl
  | n + 1, hn => by
    unfold obA obJ
    rw [obA_cg hA h n (by omega), sCo_cg hA (by omega) h]
theorem obS_cg {s rd st rd' st' : Nat → Int} {a : Int} (hA : WfA s) (h : ∀ k : Int, 0 ≤ k → k < s 1 → rd k.toNat = rd' k.toNat ∧ st k.toNat = st' k.toNat) : obS s rd st a = obS s rd' st' a := by
  have h5 := hA.1.1
  have h20 := hA.2.1.1
  unfold obS
  rw [obA_cg hA (fun k a b => (h k a b).2) _ (by omega), waA_cg _ (fun i hi => by have := h i (by omega) (by omega); rw [Int.toNat_natCast] at this; exact this)]
theorem mk_uniq {s rd st rd' st' : Nat → Int} {hd hu : Int} (hA : WfA s) (hO : WfO s) (hc : ACy s (oB 0)) (h : Tp s (oB 0) hd hu rd st) (hq : Tq s (oB 0) st) (g : Tp s (oB 0) hd hu rd' st') (gq : Tq s (oB 0) st') : mkS s st = mkS s st' := by
  have t := h.same hA hO g gq (hc.u0 hA hO hq)
  exact mkS_cg fun i hi => by have := (t i (by omega) (by omega)).2; rw [Int.toNat_natCast] at this; exact this
section XO6
variable {b N : Nat} {u u' w : tW} {g h0 : zH}
theorem x1_ofJobs {a : Int} {o rd st : Nat → Int} (hx : ∃ (sv : Value) (T : Nat) (fl cl : Value) (t : Int), sH b u g 1040 = some (oX b sv T fl cl t)) (hA : WfA (u 0)) (hS : SF u o rd st) (ha : 0 ≤ a ∧ a ≤ 2) : zMet yX1_ofJobs (ws_ yX1_ofJobs cX1_ofJobs 5 (some .int)) 6 [.ref 1040, .int (iI a)] (sH b u g) (zRet (.int (iI (obA (u 0) st a (u 0 0).toNat))) (sH b u g)) 0 0 := by
  obtain ⟨sv, T, fl, cl, t, hx⟩ := hx
  have h05 := hA.1.1
  refine zMet.of (by decide) (Nat.le_of_ble_eq_true rfl) fun X K => ?_
  have loop : ∀ r n : Nat, (r : Int) + n = u 0 0 → ∀ env, zsub env [(0, .ref 1040), (1, .int (iI a)), (2, .int (iI (obA (u 0) st a n))), (3, .int (iI n))] → zW X (zRet (.int (iI (obA (u 0) st a (u 0 0).toNat))) (sH b u g)) (sH b u g) 0 0 4 env [] := by
    intro r
    induction r with
    | zero =>
      intro n hn env he
      refine zW.cut he ?_
      refine z_iload_n K dX1_ofJobs_4 rfl rfl ?_
      refine z_aload_n K dX1_ofJobs_5 rfl rfl rfl ?_
      refine z_get K fd_X1_16_1 (hx) rfl dX1_ofJobs_6 ?_
      refine z_get K fd_X1_39_2 (sH_shop) rfl dX1_ofJobs_9 ?_
      refine z_callV K (jl_size sH_jobs) cV_X1_43_J2 (sH_jobs) rfl rfl rfl (by omega) (by omega) (by omega) (Nat.le_of_ble_eq_true rfl) dX1_ofJobs_12 zrX (zrK ?_)
      refine j_icmp_ge (tgt := 90) K dX1_ofJobs_15 rfl (by omega) (by omega) (fun c_15 => ?_) (fun c_15 => ?_)
      · refine z_iload_n K dX1_ofJobs_90 rfl rfl ?_
        exact z_iret K (by omega) (by omega) (⟨by rw [show (u 0 0).toNat = n by omega], rfl⟩) dX1_ofJobs_91
      · exact absurd c_15 (by omega)
    | succ r ih =>
      intro n hn env he
      refine zW.cut he ?_
      have nx := ih (n + 1) (by omega)
      have r1 := sCo_f (j := n) hA hS (by omega)
      have r2 := (hA.1.2 n (by omega) (by omega)).2.1
      refine z_iload_n K dX1_ofJobs_4 rfl rfl ?_
      refine z_aload_n K dX1_ofJobs_5 rfl rfl rfl ?_
      refine z_get K fd_X1_16_1 (hx) rfl dX1_ofJobs_6 ?_
      refine z_get K fd_X1_39_2 (sH_shop) rfl dX1_ofJobs_9 ?_
      refine z_callV K (jl_size sH_jobs) cV_X1_43_J2 (sH_jobs) rfl rfl rfl (by omega) (by omega) (by omega) (Nat.le_of_ble_eq_true rfl) dX1_ofJobs_12 zrX (zrK ?_)
      refine j_icmp_ge (tgt := 90) K dX1_ofJobs_15 rfl (by omega) (by omega) (fun c_15 => ?_) (fun c_15 => ?_)
      · exact absurd c_15 (by omega)
      · refine z_aload_n K dX1_ofJobs_18 rfl rfl rfl ?_
        refine z_get K fd_X1_16_1 (hx) rfl dX1_ofJobs_19 ?_
        refine z_iload_n K dX1_ofJobs_22 rfl rfl ?_
        refine z_callV K (x2_tardiness hA hS ⟨by omega, by omega⟩) cV_X1_177_X2 (sH_shop) rfl rfl rfl (by omega) (by omega) (by omega) (Nat.le_of_ble_eq_true rfl) dX1_ofJobs_23 zrX (zrK ?_)
        refine z_istore K dX1_ofJobs_26 (by decide) rfl ?_
        refine z_iload_n K dX1_ofJobs_28 rfl rfl ?_
        refine z_iload_n K dX1_ofJobs_29 rfl rfl ?_
        refine j_if_ne (tgt := 44) K dX1_ofJobs_30 rfl (by omega) (fun c_30 => ?_) (fun c_30 => ?_)
        · refine z_iload_n K dX1_ofJobs_44 rfl rfl ?_
          refine j_iconst K dX1_ofJobs_45 ?_
          refine j_icmp_ne (tgt := 72) K dX1_ofJobs_46 rfl (by omega) (by omega) (fun c_46 => ?_) (fun c_46 => ?_)
          · refine z_iload K dX1_ofJobs_72 rfl ?_
            refine j_if_le (tgt := 81) K dX1_ofJobs_74 rfl (by omega) (fun c_74 => ?_) (fun c_74 => ?_)
            · have eJ : obJ (u 0) st a n = 0 := by unfold obJ; rw [if_neg (by omega), if_neg (by omega), if_neg (by omega)]
              refine j_iconst K dX1_ofJobs_81 ?_
              refine j_iadd K dX1_ofJobs_82 ?_
              refine z_istore_n K dX1_ofJobs_83 rfl (by decide) rfl ?_
              refine j_iinc K dX1_ofJobs_84 rfl (by decide) rfl ?_
              refine z_goto (tgt := 4) K dX1_ofJobs_87 rfl ?_
              exact nx _ ⟨rfl, rfl, congrArg (fun z => some (Value.int (iI (obA (u 0) st a n + z)))) eJ.symm, rfl, trivial⟩
            · have eJ : obJ (u 0) st a n = 1 := by unfold obJ; rw [if_neg (by omega), if_neg (by omega), if_pos (by omega)]
              refine j_iconst K dX1_ofJobs_77 ?_
              refine z_goto (tgt := 82) K dX1_ofJobs_78 rfl ?_
              refine j_iadd K dX1_ofJobs_82 ?_
              refine z_istore_n K dX1_ofJobs_83 rfl (by decide) rfl ?_
              refine j_iinc K dX1_ofJobs_84 rfl (by decide) rfl ?_
              refine z_goto (tgt := 4) K dX1_ofJobs_87 rfl ?_
              exact nx _ ⟨rfl, rfl, congrArg (fun z => some (Value.int (iI (obA (u 0) st a n + z)))) eJ.symm, rfl, trivial⟩
          · have eJ : obJ (u 0) st a n = sWt (u 0) n * max 0 (sCo (u 0) st n - sDue (u 0) n) := by unfold obJ; rw [if_neg (by omega), if_pos (by omega)]
            refine z_aload_n K dX1_ofJobs_49 rfl rfl rfl ?_
            refine z_get K fd_X1_16_1 (hx) rfl dX1_ofJobs_50 ?_
            refine z_get K fd_X1_39_2 (sH_shop) rfl dX1_ofJobs_53 ?_
            refine z_iload_n K dX1_ofJobs_56 rfl rfl ?_
            refine z_callV K (gt_jobs ⟨by omega, by omega⟩ (by omega)) cV_X1_53_J2 (sH_jobs) rfl rfl rfl (by omega) (by omega) (by omega) (Nat.le_of_ble_eq_true rfl) dX1_ofJobs_57 zrX (zrK ?_)
            refine z_castS K (sH_job ⟨by omega, by omega⟩ (by omega)) rfl q773 dX1_ofJobs_60 ?_
            refine z_callV K (x5_weight ⟨by omega, by omega⟩ (by omega)) cV_X1_180_X5 (sH_job ⟨by omega, by omega⟩ (by omega)) rfl rfl rfl (by omega) (by omega) (by omega) (Nat.le_of_ble_eq_true rfl) dX1_ofJobs_63 zrX (zrK ?_)
            refine z_iload K dX1_ofJobs_66 rfl ?_
            refine j_imul K dX1_ofJobs_68 ?_
            refine z_goto (tgt := 82) K dX1_ofJobs_69 rfl ?_
            refine j_iadd K dX1_ofJobs_82 ?_
            refine z_istore_n K dX1_ofJobs_83 rfl (by decide) rfl ?_
            refine j_iinc K dX1_ofJobs_84 rfl (by decide) rfl ?_
            refine z_goto (tgt := 4) K dX1_ofJobs_87 rfl ?_
            exact nx _ ⟨rfl, rfl, congrArg (fun z => some (Value.int (iI (obA (u 0) st a n + z)))) eJ.symm, rfl, trivial⟩
        · have eJ : obJ (u 0) st a n = sCo (u 0) st n := by unfold obJ; rw [if_pos c_30]
          refine z_aload_n K dX1_ofJobs_33 rfl rfl rfl ?_
          refine z_get K fd_X1_16_1 (hx) rfl dX1_ofJobs_34 ?_
          refine z_iload_n K dX1_ofJobs_37 rfl rfl ?_
          refine z_callV K (x2_completion hA hS ⟨by omega, by omega⟩) cV_X1_174_X2 (sH_shop) rfl rfl rfl (by omega) (by omega) (by omega) (Nat.le_of_ble_eq_true rfl) dX1_ofJobs_38 zrX (zrK ?_)
          refine z_goto (tgt := 82) K dX1_ofJobs_41 rfl ?_
          refine j_iadd K dX1_ofJobs_82 ?_
          refine z_istore_n K dX1_ofJobs_83 rfl (by decide) rfl ?_
          refine j_iinc K dX1_ofJobs_84 rfl (by decide) rfl ?_
          refine z_goto (tgt := 4) K dX1_ofJobs_87 rfl ?_
          exact nx _ ⟨rfl, rfl, congrArg (fun z => some (Value.int (iI (obA (u 0) st a n + z)))) eJ.symm, rfl, trivial⟩
  refine j_iconst K dX1_ofJobs_0 ?_
  refine z_istore_n K dX1_ofJobs_1 rfl (by decide) rfl ?_
  refine j_iconst K dX1_ofJobs_2 ?_
  refine z_istore_n K dX1_ofJobs_3 rfl (by decide) rfl ?_
  exact loop (u 0 0).toNat 0 (by omega) _ ⟨rfl, rfl, rfl, rfl, trivial⟩
theorem x1_allWaiting {o rd st : Nat → Int} (hx : ∃ (sv : Value) (T : Nat) (fl cl : Value) (t : Int), sH b u g 1040 = some (oX b sv T fl cl t)) (hA : WfA (u 0)) (hS : SF u o rd st) : zMet yX1_allWaiting (ws_ yX1_allWaiting cX1_allWaiting 3 (some .int)) 6 [.ref 1040] (sH b u g) (zRet (.int (iI (waA rd st (u 0 1).toNat))) (sH b u g)) 0 0 := by
  obtain ⟨sv, T, fl, cl, t, hx⟩ := hx
  have h20 := hA.2.1.1
  refine zMet.of (by decide) (Nat.le_of_ble_eq_true rfl) fun X K => ?_
  have loop : ∀ r n : Nat, (r : Int) + n = u 0 1 → ∀ env, zsub env [(0, .ref 1040), (1, .int (iI (waA rd st n))), (2, .int (iI n))] → zW X (zRet (.int (iI (waA rd st (u 0 1).toNat))) (sH b u g)) (sH b u g) 0 0 4 env [] := by
    intro r
    induction r with
    | zero =>
      intro n hn env he
      refine zW.cut he ?_
      refine z_iload_n K dX1_allWaiting_4 rfl rfl ?_
      refine z_aload_n K dX1_allWaiting_5 rfl rfl rfl ?_
      refine z_get K fd_X1_16_1 (hx) rfl dX1_allWaiting_6 ?_
      refine z_get K fd_X1_59_2 (sH_shop) rfl dX1_allWaiting_9 ?_
      refine z_callV K (jl_size sH_ops) cV_X1_43_J2 (sH_ops) rfl rfl rfl (by omega) (by omega) (by omega) (Nat.le_of_ble_eq_true rfl) dX1_allWaiting_12 zrX (zrK ?_)
      refine j_icmp_ge (tgt := 46) K dX1_allWaiting_15 rfl (by omega) (by omega) (fun c_15 => ?_) (fun c_15 => ?_)
      · refine z_iload_n K dX1_allWaiting_46 rfl rfl ?_
        exact z_iret K (by omega) (by omega) (⟨by rw [show (u 0 1).toNat = n by omega], rfl⟩) dX1_allWaiting_47
      · exact absurd c_15 (by omega)
    | succ r ih =>
      intro n hn env he
      refine zW.cut he ?_
      have nx := ih (n + 1) (by omega)
      obtain ⟨f1, f2, f3, -⟩ := hS n (by omega) (by omega)
      have eJ : st n - rd n = u 3 (n : Int).toNat - u 2 (n : Int).toNat := by rw [f2, f3, Int.toNat_natCast]
      refine z_iload_n K dX1_allWaiting_4 rfl rfl ?_
      refine z_aload_n K dX1_allWaiting_5 rfl rfl rfl ?_
      refine z_get K fd_X1_16_1 (hx) rfl dX1_allWaiting_6 ?_
      refine z_get K fd_X1_59_2 (sH_shop) rfl dX1_allWaiting_9 ?_
      refine z_callV K (jl_size sH_ops) cV_X1_43_J2 (sH_ops) rfl rfl rfl (by omega) (by omega) (by omega) (Nat.le_of_ble_eq_true rfl) dX1_allWaiting_12 zrX (zrK ?_)
      refine j_icmp_ge (tgt := 46) K dX1_allWaiting_15 rfl (by omega) (by omega) (fun c_15 => ?_) (fun c_15 => ?_)
      · exact absurd c_15 (by omega)
      · refine z_iload_n K dX1_allWaiting_18 rfl rfl ?_
        refine z_aload_n K dX1_allWaiting_19 rfl rfl rfl ?_
        refine z_get K fd_X1_16_1 (hx) rfl dX1_allWaiting_20 ?_
        refine z_get K fd_X1_164_2 (sH_shop) rfl dX1_allWaiting_23 ?_
        refine z_iload_n K dX1_allWaiting_26 rfl rfl ?_
        refine j_ild K (sH_30) (by omega) (by omega) dX1_allWaiting_27 ?_
        refine z_aload_n K dX1_allWaiting_28 rfl rfl rfl ?_
        refine z_get K fd_X1_16_1 (hx) rfl dX1_allWaiting_29 ?_
        refine z_get K fd_X1_161_2 (sH_shop) rfl dX1_allWaiting_32 ?_
        refine z_iload_n K dX1_allWaiting_35 rfl rfl ?_
        refine j_ild K (sH_29) (by omega) (by omega) dX1_allWaiting_36 ?_
        refine j_isub K dX1_allWaiting_37 ?_
        refine j_iadd K dX1_allWaiting_38 ?_
        refine z_istore_n K dX1_allWaiting_39 rfl (by decide) rfl ?_
        refine j_iinc K dX1_allWaiting_40 rfl (by decide) rfl ?_
        refine z_goto (tgt := 4) K dX1_allWaiting_43 rfl ?_
        exact nx _ ⟨rfl, congrArg (fun z => some (Value.int (iI (waA rd st n + z)))) eJ.symm, rfl, trivial⟩
  refine j_iconst K dX1_allWaiting_0 ?_
  refine z_istore_n K dX1_allWaiting_1 rfl (by decide) rfl ?_
  refine j_iconst K dX1_allWaiting_2 ?_
  refine z_istore_n K dX1_allWaiting_3 rfl (by decide) rfl ?_
  exact loop (u 0 1).toNat 0 (by omega) _ ⟨rfl, rfl, rfl, trivial⟩
theorem x1_objective {a : Int} (hC : CG b N u g w) (hI : TI w) (ha : i32 a) : zMet yX1_objective (ws_ yX1_objective cX1_objective 2 (some .int)) 8 [.ref 1040, .int (iI a)] (sH b u g) (cQ (sH b u g) (pubQ w (tcObj a) (fun v w' => ∃ rd st, w' = wt (tset w 3 0 0) rd st ∧ fT w 500 rd st ∧ v = obS (w 0) rd st a)) (cdA 22 99 99)) 1 6 := by
  obtain ⟨sv, T, fl, cl, hx⟩ := hC.xg
  have n8 := hC.n8
  have k1 := x1_cmp hC
  have k2 := x1_inG (h := sH b u g) (x := a) (a := 0) (b := 4) ha (by omega) (by omega)
  have k3 := x1_check (h := sH b u g) (N := N) (v := bI (0 ≤ a ∧ a ≤ 4)) hC.am (b01r _) hC.fr n8.2.2.2
  generalize hR : (pubQ w (tcObj a) (fun v w' => ∃ rd st, w' = wt (tset w 3 0 0) rd st ∧ fT w 500 rd st ∧ v = obS (w 0) rd st a)) = R
  have hex : ¬ (0 ≤ a ∧ a ≤ 4) → cQ (sH b u g) R (cdA 22 99 99) (.inr N) (zup (sH b u g) N (oEx 22 (sH b u g) N)) := fun ck => cQ.ex hC hC.lo (by decide) (fun v' w' r => by rw [← hR] at r; exact pubQ.ex r (if_neg ck) (by decide))
  have hok : ∀ u' rd st, SK u u' → Sch (u 0) u' rd st → (0 ≤ a ∧ a ≤ 4) → ∀ v, v = obS (u 0) rd st a → cQ (sH b u g) R (cdA 22 99 99) (.inl (some (.int (iI v)))) (sH b u' g) := fun u' rd st sk sc c2 v e => cQ.ok (hC.sk sk) hC.lo (by
    intro v' w' r
    rw [← hR] at r
    obtain ⟨rd', st', rfl, hf, rfl⟩ := r.1 (if_pos c2)
    exact ⟨wt_3, by rw [e, ← hC.row]; exact (obS_cg hC.A (fun k a b => sc.tie hC hI hf k a b)).symm, sw.wt, wt_0⟩)
  clear hR
  refine zMet.of (by decide) (Nat.le_of_ble_eq_true rfl) fun X K => ?_
  refine z_iload_n K dX1_objective_0 rfl rfl ?_
  refine j_iconst K dX1_objective_1 ?_
  refine j_iconst K dX1_objective_2 ?_
  refine z_callS K (k2) cS_X1_3 rfl rfl (by omega) (by omega) (by omega) (Nat.le_of_ble_eq_true rfl) dX1_objective_3 zrX (zrK ?_)
  refine z_callS K (k3) cS_X1_80 rfl rfl (by omega) (by omega) (by omega) (Nat.le_of_ble_eq_true rfl) dX1_objective_6 (ckX fun ck_6 => z_out K rfl (by omega) (by omega) (hex (fun q => ck_6 (by rw [show bI (0 ≤ a ∧ a ≤ 4) = 1 from if_pos q]; decide)))) (ckK fun ck_6 => ?_)
  have ck := bI_n ck_6
  refine z_aload_n K dX1_objective_9 rfl rfl rfl ?_
  refine z_callV K (k1) cV_X1_158_X1 (hx _) rfl rfl rfl (by omega) (by omega) (by omega) (Nat.le_of_ble_eq_true rfl) dX1_objective_10 cmX (cmK fun u' rd st sk sc => ?_)
  refine z_pop K dX1_objective_13 rfl ?_
  have e0 := sk.e0
  have hA := hC.A
  have hO := hC.O
  rw [← e0] at hA hO
  refine z_iload_n K dX1_objective_14 rfl rfl ?_
  refine j_iconst K dX1_objective_15 ?_
  refine j_icmp_ge (tgt := 27) K dX1_objective_16 rfl (by omega) (by omega) (fun c_16 => ?_) (fun c_16 => ?_)
  · refine z_iload_n K dX1_objective_27 rfl rfl ?_
    refine j_iconst K dX1_objective_28 ?_
    refine j_icmp_ne (tgt := 42) K dX1_objective_29 rfl (by omega) (by omega) (fun c_29 => ?_) (fun c_29 => ?_)
    · refine z_aload_n K dX1_objective_42 rfl rfl rfl ?_
      refine z_callV K (x1_allWaiting ⟨sv, T, fl, cl, _, hx _⟩ hA sc.1) cV_X1_189_X1 (hx _) rfl rfl rfl (by omega) (by omega) (by omega) (Nat.le_of_ble_eq_true rfl) dX1_objective_43 zrX (zrK ?_)
      exact z_iret K (by omega) (by omega) (hok u' rd st sk sc ck _ (by first | exact eA | exact eB | (unfold obS; rw [if_neg (by omega), if_pos (by omega), e0]))) dX1_objective_46
    · refine z_aload_n K dX1_objective_32 rfl rfl rfl ?_
      refine z_get K fd_X1_16_1 (hx _) rfl dX1_objective_33 ?_
      refine z_callV K (x2_allSetups hA hO) cV_X1_186_X2 (sH_shop) rfl rfl rfl (by omega) (by omega) (by omega) (Nat.le_of_ble_eq_true rfl) dX1_objective_36 zrX (zrK ?_)
      have eB : suA (u' 0) 4 = obS (u 0) rd st a := by unfold obS; rw [if_pos (by omega), e0]
      refine z_goto (tgt := 46) K dX1_objective_39 rfl ?_
      exact z_iret K (by omega) (by omega) (hok u' rd st sk sc ck _ (by first | exact eA | exact eB | (unfold obS; rw [if_neg (by omega), if_pos (by omega), e0]))) dX1_objective_46
  · refine z_aload_n K dX1_objective_19 rfl rfl rfl ?_
    refine z_iload_n K dX1_objective_20 rfl rfl ?_
    refine z_callV K (x1_ofJobs ⟨sv, T, fl, cl, _, hx _⟩ hA sc.1 (by omega)) cV_X1_183_X1 (hx _) rfl rfl rfl (by omega) (by omega) (by omega) (Nat.le_of_ble_eq_true rfl) dX1_objective_21 zrX (zrK ?_)
    have eA : obA (u' 0) st a (u' 0 0).toNat = obS (u 0) rd st a := by unfold obS; rw [if_neg (by omega), if_neg (by omega), e0]
    refine z_goto (tgt := 46) K dX1_objective_24 rfl ?_
    exact z_iret K (by omega) (by omega) (hok u' rd st sk sc ck _ (by first | exact eA | exact eB | (unfold obS; rw [if_neg (by omega), if_pos (by omega), e0]))) dX1_objective_46
theorem x2_mkW {op un : Int} (hb : 1000 ≤ b) (hA : WfA (u 0)) (hO : WfO (u 0)) (hB : BkOk b u g) (hop : -1 ≤ op ∧ op ≤ 100) (hun : 0 ≤ un ∧ un ≤ 3000) :
    zMet yX2_makespanWith (ws_ yX2_makespanWith cX2_makespanWith 4 (some .int)) 7 [.ref b, .int (iI op), .int (iI un)] (sH b u g) (fun z h' => ∃ u' rd st, z = .inl (some (.int (iI (mkS (u 0) st)))) ∧ h' = sH b u' g ∧ Tp (u 0) (oB 0) op un rd st ∧ Tq (u 0) (oB 0) st ∧ u' 0 = u 0 ∧ u' 5 2 = -1 ∧ u' 5 3 = un ∧ (T3 u → T3 u') ∧ (∀ f, 6 ≤ f → u' f = u f) ∧ ∀ i : Nat, (i : Int) < u 0 1 → -1 ≤ st i ∧ st i ≤ 4000) 0 0 := by
  refine zMet.of (by decide) (Nat.le_of_ble_eq_true rfl) fun X K => ?_
  have w0 : tset (tset u 5 2 op) 5 3 un 0 = u 0 := rfl
  have hBv : BkOk b (tset (tset u 5 2 op) 5 3 un) g := hB
  have hsc := x2_isScheduled (b := b) (u := tset (tset u 5 2 op) 5 3 un) (g := g) (a := 0) (bb := 3200) (by decide) hb (by omega) (Or.inr (by show un ≤ 3200; omega)) hA hO hBv (by show -1 ≤ op ∧ op ≤ 100; omega) (by show 0 ≤ un ∧ un ≤ 3000; omega)
  have c15 : ∀ (u2 : tW) (rd st : Nat → Int), SK (tset (tset u 5 2 op) 5 3 un) u2 → SR (u 0) (oB 0) op un rd st u2 → Tp (u 0) (oB 0) op un rd st → Tq (u 0) (oB 0) st → (∀ i : Nat, (i : Int) < u 0 1 → -1 ≤ st i ∧ st i ≤ 4000) → ∀ env, zsub env [(0, .ref b)] → zW X (fun z h' => ∃ u' rd st, z = .inl (some (.int (iI (mkS (u 0) st)))) ∧ h' = sH b u' g ∧ Tp (u 0) (oB 0) op un rd st ∧ Tq (u 0) (oB 0) st ∧ u' 0 = u 0 ∧ u' 5 2 = -1 ∧ u' 5 3 = un ∧ (T3 u → T3 u') ∧ (∀ f, 6 ≤ f → u' f = u f) ∧ ∀ i : Nat, (i : Int) < u 0 1 → -1 ≤ st i ∧ st i ≤ 4000) (sH b u2 g) 0 0 15 env [.int (iI (bI (cntU st (u 0 1).toNat = 0)))] := by
    intro u2 rd st hK2 hR2 hT2 hQ2 hB2 env he
    refine zW.cut he ?_
    obtain ⟨e3, -, -, -, e4, e5, e6⟩ := id hR2
    have hcr := cntU_r st (u 0 1).toNat
    have hfr : ∀ f, 6 ≤ f → tset u2 5 2 (-1) f = u f := fun f hf => by rw [tset_g (by omega), hK2.1 f (by omega) (by omega) (by omega) (by omega) (by omega), tset_g (by omega), tset_g (by omega)]
    have hv : tset u2 5 2 (-1) 5 0 = u2 5 0 := rfl
    by_cases hz : cntU st (u 0 1).toNat = 0
    · have hv : mkS (u 0) st = u2 5 0 := by unfold mkS; rw [if_neg (by omega), e4, gMx_all _ hz]
      refine z_istore_n K dX2_makespanWith_15 rfl (by decide) rfl ?_
      refine z_aload_n K dX2_makespanWith_16 rfl rfl rfl ?_
      refine j_iconst K dX2_makespanWith_17 ?_
      refine z_putE K fd_X2_43_2 ⟨_, rfl, Or.inl rfl⟩ (sH_shop) (by omega) (Nat.le_of_ble_eq_true rfl) (zf_i) dX2_makespanWith_18 (sH_n2) ?_
      refine z_iload_n K dX2_makespanWith_21 rfl rfl ?_
      refine j_if_eq (tgt := 32) K dX2_makespanWith_22 rfl (b01r _) (fun c_22 => ?_) (fun c_22 => ?_)
      · exact absurd (bI_eq.mp c_22) (fun q => q hz)
      · refine z_aload_n K dX2_makespanWith_25 rfl rfl rfl ?_
        refine z_get K fd_X2_164_2 (sH_shop) rfl dX2_makespanWith_26 ?_
        refine z_goto (tgt := 33) K dX2_makespanWith_29 rfl ?_
        exact z_iret K (by omega) (by omega) (⟨_, rd, st, by rw [hv]; rfl, rfl, hT2, hQ2, e3, rfl, e6, fun z => hK2.2.2.2 z, hfr, hB2⟩) dX2_makespanWith_33
    · have hv : mkS (u 0) st = -1 := by unfold mkS; rw [if_pos (by omega)]
      refine z_istore_n K dX2_makespanWith_15 rfl (by decide) rfl ?_
      refine z_aload_n K dX2_makespanWith_16 rfl rfl rfl ?_
      refine j_iconst K dX2_makespanWith_17 ?_
      refine z_putE K fd_X2_43_2 ⟨_, rfl, Or.inl rfl⟩ (sH_shop) (by omega) (Nat.le_of_ble_eq_true rfl) (zf_i) dX2_makespanWith_18 (sH_n2) ?_
      refine z_iload_n K dX2_makespanWith_21 rfl rfl ?_
      refine j_if_eq (tgt := 32) K dX2_makespanWith_22 rfl (b01r _) (fun c_22 => ?_) (fun c_22 => ?_)
      · refine j_iconst K dX2_makespanWith_32 ?_
        exact z_iret K (by omega) (by omega) (⟨_, rd, st, by rw [hv], rfl, hT2, hQ2, e3, rfl, e6, fun z => hK2.2.2.2 z, hfr, hB2⟩) dX2_makespanWith_33
      · exact absurd (bI_ne.mp c_22) hz
  refine z_aload_n K dX2_makespanWith_0 rfl rfl rfl ?_
  refine z_iload_n K dX2_makespanWith_1 rfl rfl ?_
  refine z_putE K fd_X2_43_2 ⟨_, rfl, Or.inl rfl⟩ (sH_shop) (by omega) (Nat.le_of_ble_eq_true rfl) (zf_i) dX2_makespanWith_2 (sH_n2) ?_
  refine z_aload_n K dX2_makespanWith_5 rfl rfl rfl ?_
  refine z_iload_n K dX2_makespanWith_6 rfl rfl ?_
  refine z_putE K fd_X2_157_2 ⟨_, rfl, Or.inl rfl⟩ (sH_shop) (by omega) (Nat.le_of_ble_eq_true rfl) (zf_i) dX2_makespanWith_7 (sH_n3) ?_
  refine z_aload_n K dX2_makespanWith_10 rfl rfl rfl ?_
  refine j_iconst K dX2_makespanWith_11 ?_
  refine z_callV K (hsc) cV_X2_182_X2 (sH_shop) rfl rfl rfl (by omega) (by omega) (by omega) (Nat.le_of_ble_eq_true rfl) dX2_makespanWith_12 (fun _ _ ⟨_, _, _, e, _⟩ => nomatch e) ?_
  rintro _ _ ⟨u2, rd, st, ez, rfl, hK2, hR2, hT2, hQ2, hB2⟩
  cases ez
  exact c15 u2 rd st hK2 hR2 hT2 hQ2 (fun i hi => by have := hB2 i hi; omega) _ ⟨rfl, trivial⟩
theorem CG.hw (h : CG b N u g w) (e0 : u' 0 = u 0) (h2 : u' 5 2 = -1) (h3 : 0 ≤ u' 5 3 ∧ u' 5 3 ≤ 3000) (t : T3 u → T3 u') (f6 : ∀ f, 6 ≤ f → u' f = u f) : CG b N u' g w := by
  obtain ⟨a1, a2, a3, a4, a5, a6, a7, a8, a9, a10, a11⟩ := h
  exact ⟨a1, a2, a3, a4, by rw [e0]; exact a5, by rw [e0]; exact a6, a7.so e0 (f6 7 (by decide)) (f6 8 (by decide)), h2, h3, t a10, a11⟩
theorem x1_slack {k : Int} (hC : CG b N u g w) (hI : TI w) (hk : i32 k) : zMet yX1_slack (ws_ yX1_slack cX1_slack 5 (some .int)) 8 [.ref 1040, .int (iI k)] (sH b u g) (cQ (sH b u g) (pubQ w (tcSlack w k) (fun v w' => isSlack (w 0) (w 13) k v ∧ ∃ rd st hu, (0 ≤ hu ∧ hu ≤ 3000) ∧ w' = tset (wt (tset (tset (tset w 3 0 0) 14 0 k) 15 0 hu) rd st) 14 0 (-1))) (cdA 24 99 99)) 1 6 := by
  obtain ⟨sv, T, fl, cl, hx⟩ := hC.xg
  have n8 := hC.n8
  have h20 := hC.A.2.1.1
  have k0 := x1_operationAt hC hk
  have k1 := x1_cmp hC
  have er := hC.row
  generalize hR : (pubQ w (tcSlack w k) (fun v w' => isSlack (w 0) (w 13) k v ∧ ∃ rd st hu, (0 ≤ hu ∧ hu ≤ 3000) ∧ w' = tset (wt (tset (tset (tset w 3 0 0) 14 0 k) 15 0 hu) rd st) 14 0 (-1))) = R
  have hex : ¬ (0 ≤ k ∧ k ≤ u 0 1 - 1) → cQ (sH b u g) R (cdA 24 99 99) (.inr N) (zup (sH b u g) N (oEx 24 (sH b u g) N)) := fun ck => cQ.ex hC hC.lo (by decide) (fun v' w' r => by rw [← hR] at r; exact pubQ.ex r (if_neg (by rw [← er]; exact ck)) (by decide))
  have hok : ∀ (u1 u2 : tW) (rd st : Nat → Int) (v : Int), CG b N u2 g w → Sch (u 0) u1 rd st → (0 ≤ k ∧ k ≤ u 0 1 - 1) → (0 ≤ v ∧ v ≤ 60) → (∀ x : Int, v < x → x ≤ 60 → ∃ rd' st', Tp (u 0) (oB 0) k (st k.toNat + x) rd' st' ∧ Tq (u 0) (oB 0) st' ∧ mkS (u 0) st' ≠ gEnd (u 0) st (u 0 1).toNat) → (v = 0 ∨ ∃ rd' st', Tp (u 0) (oB 0) k (st k.toNat + v) rd' st' ∧ Tq (u 0) (oB 0) st' ∧ mkS (u 0) st' = gEnd (u 0) st (u 0 1).toNat) → cQ (sH b u g) R (cdA 24 99 99) (.inl (some (.int (iI v)))) (sH b u2 g) := fun u1 u2 rd st v hC2 sc c1 hv hx1 hx2 => cQ.ok hC2 hC.lo (by
    intro v' w' r
    rw [← hR] at r
    obtain ⟨⟨rd0, st0, t1, t2, t3, ⟨rd1, st1, p1, p2, p3⟩, t5⟩, rd', st', hu, hhu, rfl⟩ := r.1 (if_pos (by rw [← er]; exact c1))
    have es := sc.2.1.same hC.A hC.O (by rw [er]; exact t1.cg hI.1 hI.ob0) (by rw [er]; exact t2.cg hI.1 hI.ob0) sc.2.2.2.1
    have em : gEnd (u 0) st (u 0 1).toNat = mkS (u 0) st0 := by
      rw [← mkS_cg (st := st) (fun i hi => by have := (es i (by omega) (by omega)).2; rw [Int.toNat_natCast] at this; exact this)]
      unfold mkS
      rw [if_neg (by have := sc.2.2.2.1; omega)]
    have ek := (es k c1.1 (by omega)).2
    rw [ek, em] at hx2
    rw [ek, em] at hx1
    rw [← er] at p1 p2 p3 t5
    have q1 := p1.cg (o' := oB 0) hC.A hI.ob0
    have q2 := p2.cg (o' := oB 0) hC.A hI.ob0
    have ev : v' = v := by
      rcases Int.lt_trichotomy v' v with z | z | z
      · obtain ⟨rd5, st5, x1, x2, x3⟩ := t5 v z hv.2
        rcases hx2 with y | ⟨rd6, st6, y1, y2, y3⟩
        · omega
        · exact absurd ((mk_uniq hC.A hC.O hC.C (x1.cg (o' := oB 0) hC.A hI.ob0) (x2.cg (o' := oB 0) hC.A hI.ob0) y1 y2).trans y3) x3
      · exact z
      · obtain ⟨rd5, st5, x1, x2, x3⟩ := hx1 v' z t3.2
        exact absurd ((mk_uniq hC.A hC.O hC.C x1 x2 q1 q2).trans p3) x3
    refine ⟨?_, ev, fun f a1 a2 a3 => ?_, ?_⟩
    · rw [tset_f (by decide), wt_o (by decide) (by decide), tset_f (by decide), tset_f (by decide)]; exact set3_3
    · rw [tsG (by omega), wt_o (by omega) (by omega), tsG (by omega), tsG (by omega)]; exact sw.set f a1 a2 a3
    · rw [tsG (by decide), wt_o (by decide) (by decide), tsG (by decide), tsG (by decide)]; exact set3_0)
  clear hR
  refine zMet.of (by decide) (Nat.le_of_ble_eq_true rfl) fun X K => ?_
  have loop : ∀ (u1 : tW) (rd st : Nat → Int), u1 0 = u 0 → Sch (u 0) u1 rd st → (0 ≤ k ∧ k ≤ u 0 1 - 1) → ∀ (n : Nat) (u2 : tW), n ≤ 60 → CG b N u2 g w → (∀ x : Int, n < x → x ≤ 60 → ∃ rd' st', Tp (u 0) (oB 0) k (st k.toNat + x) rd' st' ∧ Tq (u 0) (oB 0) st' ∧ mkS (u 0) st' ≠ gEnd (u 0) st (u 0 1).toNat) → ∀ env, zsub env [(0, .ref 1040), (1, .int (iI k)), (2, .int (iI (gEnd (u 0) st (u 0 1).toNat))), (3, .int (iI (st k.toNat))), (4, .int (iI n))] → zW X (cQ (sH b u g) R (cdA 24 99 99)) (sH b u2 g) 1 6 25 env [] := by
    intro u1 rd st e1 sc c1 n
    have hs := sc.2.2.2.2.1 k.toNat (by omega)
    have hs0 := (sc.1 k c1.1 (by rw [e1]; omega)).2.2.2.2
    have hg := gEnd_r (s := u 0) (st := st) (n := (u 0 1).toNat) hC.A (by omega) (fun i hi => by have := sc.2.2.2.2.1 i hi; omega)
    induction n with
    | zero =>
      intro u2 hn hC2 hm env he
      refine zW.cut he ?_
      have fin := hok u1 u2 rd st 0 hC2 sc c1 (by omega) hm (Or.inl rfl)
      refine z_iload K dX1_slack_25 rfl ?_
      refine j_if_le (tgt := 52) K dX1_slack_27 rfl (by omega) (fun c_27 => ?_) (fun c_27 => ?_)
      · refine z_iload K dX1_slack_52 rfl ?_
        exact z_iret K (by omega) (by omega) (fin) dX1_slack_54
      · exact absurd c_27 (by omega)
    | succ n ih =>
      intro u2 hn hC2 hm env he
      refine zW.cut he ?_
      have e2 : u2 0 = u 0 := hC2.row.trans er.symm
      have km := x2_mkW (b := b) (u := u2) (g := g) (op := k) (un := st k.toNat + ((n : Int) + 1)) n8.1 hC2.A hC2.O hC2.bk (by omega) (by omega)
      rw [e2] at km
      refine z_iload K dX1_slack_25 rfl ?_
      refine j_if_le (tgt := 52) K dX1_slack_27 rfl (by omega) (fun c_27 => ?_) (fun c_27 => ?_)
      · exact absurd c_27 (by omega)
      · refine z_aload_n K dX1_slack_30 rfl rfl rfl ?_
        refine z_get K fd_X1_16_1 (hx _) rfl dX1_slack_31 ?_
        refine z_iload_n K dX1_slack_34 rfl rfl ?_
        refine z_iload_n K dX1_slack_35 rfl rfl ?_
        refine z_iload K dX1_slack_36 rfl ?_
        refine j_iadd K dX1_slack_38 ?_
        refine z_callV K (km) cV_X1_170_X2 (sH_shop) rfl rfl rfl (by omega) (by omega) (by omega) (Nat.le_of_ble_eq_true rfl) dX1_slack_39 (fun q h1 hq => by obtain ⟨_, _, _, z, -⟩ := hq; cases z) ?_
        rintro v h1 ⟨u3, rd', st', z, rfl, p1, p2, p3, p4, p5, p6, p7, p8⟩
        cases z
        have hg2 := gEnd_r (n := (u 0 1).toNat) hC.A (by omega) p8
        have hmk : -1 ≤ mkS (u 0) st' ∧ mkS (u 0) st' ≤ 4030 := by unfold mkS; split <;> omega
        have hC3 : CG b N u3 g w := hC2.hw (p3.trans e2.symm) p4 (by rw [p5]; omega) p6 p7
        refine z_iload_n K dX1_slack_42 rfl rfl ?_
        refine j_icmp_eq (tgt := 52) K dX1_slack_43 rfl (by omega) (by omega) (fun c_43 => ?_) (fun c_43 => ?_)
        · refine z_iload K dX1_slack_52 rfl ?_
          exact z_iret K (by omega) (by omega) (hok u1 u3 rd st _ hC3 sc c1 (by omega) (fun x x0 x1 => hm x (by omega) x1) (Or.inr ⟨rd', st', p1, p2, c_43⟩)) dX1_slack_54
        · refine j_iinc K dX1_slack_46 rfl (by decide) rfl ?_
          refine z_goto (tgt := 25) K dX1_slack_49 rfl ?_
          refine ih u3 (by omega) hC3 (fun x x0 x1 => ?_) _ ⟨rfl, rfl, rfl, rfl, congrArg (fun z => some (Value.int (iI z))) (by omega), trivial⟩
          by_cases xx : x = (n : Int) + 1
          · exact ⟨rd', st', by rw [xx]; exact p1, p2, c_43⟩
          · exact hm x (by omega) x1
  refine z_aload_n K dX1_slack_0 rfl rfl rfl ?_
  refine z_iload_n K dX1_slack_1 rfl rfl ?_
  refine z_callV K (k0) cV_X1_109_X1 (hx _) rfl rfl rfl (by omega) (by omega) (by omega) (Nat.le_of_ble_eq_true rfl) dX1_slack_2 (ckX fun ck_2 => z_out K rfl (by omega) (by omega) (hex ck_2)) (rkK fun ck_2 => ?_)
  refine z_pop K dX1_slack_5 rfl ?_
  refine z_aload_n K dX1_slack_6 rfl rfl rfl ?_
  refine z_callV K (k1) cV_X1_158_X1 (hx _) rfl rfl rfl (by omega) (by omega) (by omega) (Nat.le_of_ble_eq_true rfl) dX1_slack_7 cmX (cmK fun u' rd st sk sc => ?_)
  refine z_istore_n K dX1_slack_10 rfl (by decide) rfl ?_
  refine z_aload_n K dX1_slack_11 rfl rfl rfl ?_
  refine z_get K fd_X1_16_1 (hx _) rfl dX1_slack_12 ?_
  refine z_get K fd_X1_164_2 (sH_shop) rfl dX1_slack_15 ?_
  refine z_iload_n K dX1_slack_18 rfl rfl ?_
  refine j_ild K (sH_30) (by omega) (by omega) dX1_slack_19 ?_
  rw [(sc.1 k ck_2.1 (by rw [sk.e0]; omega)).2.2.1]
  refine z_istore_n K dX1_slack_20 rfl (by decide) rfl ?_
  refine j_bipush K dX1_slack_21 (by decide +kernel) ?_
  refine z_istore K dX1_slack_23 (by decide) rfl ?_
  exact loop u' rd st sk.e0 sc ck_2 60 u' (Nat.le_refl _) (hC.sk sk) (fun x a b => absurd a (by omega)) _ ⟨rfl, rfl, rfl, rfl, rfl, trivial⟩
end XO6

