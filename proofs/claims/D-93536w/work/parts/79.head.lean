/-! ===== the component: head and tail, a held operation, orders taken over ===== -/
theorem rst_cons (s : Nat → Int) (j i : Int) : ∀ n : Nat, rst s j i (n + 1) = sDu s (sSeq s j i) + rst s j (i + 1) n
  | 0 => by unfold rst; unfold rst; rw [show i + ((0 : Nat) : Int) = i by omega]; omega
  | n + 1 => by
    have h := rst_cons s j i n
    unfold rst
    rw [h]
    rw [show i + ((n + 1 : Nat) : Int) = i + 1 + (n : Int) by omega]
    omega
theorem tlO_rst {s : Nat → Int} (hA : WfA s) {k : Int} (hk : 0 ≤ k ∧ k < s 1) : rst s (sJb s k) (sIx s k + 1) (sLen s (sJb s k) - (sIx s k + 1)).toNat = tlO s k := by
  obtain ⟨a1, a2, a3, a4, a5, a6⟩ := hA.2.1.2 k hk.1 hk.2
  unfold tlO rOf
  rw [show (sLen s (sJb s k) - sIx s k).toNat = (sLen s (sJb s k) - (sIx s k + 1)).toNat + 1 by omega, rst_cons, a6]
  omega
theorem bI_t {p : Prop} [Decidable p] (h : p) : bI p = 1 := by unfold bI; rw [if_pos h]
theorem bI_f {p : Prop} [Decidable p] (h : ¬ p) : bI p = 0 := by unfold bI; rw [if_neg h]
section XHd
variable {b : Nat} {u : tW} {g : zH} {N : Nat}
theorem x2_tail {k : Int} (hA : WfA (u 0)) (hk : 0 ≤ k ∧ k < u 0 1) : zMet yX2_tail (ws_ yX2_tail cX2_tail 2 (some .int)) 5 [.ref b, .ref (b + 52 + k.toNat)] (sH b u g) (zRet (.int (iI (tlO (u 0) k))) (sH b u g)) 0 0 := by
  have h20 := hA.2.1.1
  have h05 := hA.1.1
  obtain ⟨a1, a2, a3, a4, a5, a6⟩ := hA.2.1.2 k hk.1 hk.2
  have hl := (hA.1.2 _ a1.1 a1.2).2.2.2
  have hw := x5_work (b := b) (u := u) (g := g) (j := sJb (u 0) k) (x := sIx (u 0) k + 1) hA a1 (by omega)
  rw [show u 0 (17 + sJb (u 0) k).toNat = sLen (u 0) (sJb (u 0) k) from rfl, tlO_rst hA hk] at hw
  refine zMet.of (by decide) (Nat.le_of_ble_eq_true rfl) fun X K => ?_
  (try dsimp only [sRel, sDue, sWt, sLen, sSeq, sJb, sMc, sDu, sFa, sIx, sSu, sBn, sBf, sBl, sOn, sOr] at *)
  refine z_aload_n K dX2_tail_0 rfl rfl rfl ?_
  refine z_get K fd_X2_12_2 (sH_shop) rfl dX2_tail_1 ?_
  refine z_aload_n K dX2_tail_4 rfl rfl rfl ?_
  refine z_get K fd_X2_79_5 (sH_op ⟨by omega, by omega⟩ (by omega)) rfl dX2_tail_5 ?_
  refine z_callV K (gt_jobs ⟨by omega, by omega⟩ (by omega)) cV_X2_59_J2 (sH_jobs) rfl rfl rfl (by omega) (by omega) (by omega) (Nat.le_of_ble_eq_true rfl) dX2_tail_8 zrX (zrK ?_)
  refine z_castS K (sH_job ⟨by omega, by omega⟩ (by omega)) rfl q417 dX2_tail_11 ?_
  refine z_aload_n K dX2_tail_14 rfl rfl rfl ?_
  refine z_get K fd_X2_140_5 (sH_op ⟨by omega, by omega⟩ (by omega)) rfl dX2_tail_15 ?_
  refine j_iconst K dX2_tail_18 ?_
  refine j_iadd K dX2_tail_19 ?_
  refine z_callV K (hw) cV_X2_222_X5 (sH_job ⟨by omega, by omega⟩ (by omega)) rfl rfl rfl (by omega) (by omega) (by omega) (Nat.le_of_ble_eq_true rfl) dX2_tail_20 zrX (zrK ?_)
  exact z_iret K (by omega) (by omega) (⟨rfl, rfl⟩) dX2_tail_23
theorem tlO_rr {s : Nat → Int} (hA : WfA s) {k : Int} (hk : 0 ≤ k ∧ k < s 1) : 0 ≤ tlO s k ∧ tlO s k ≤ 120 := by
  obtain ⟨a1, a2, a3, a4, a5, a6⟩ := hA.2.1.2 k hk.1 hk.2
  have hl := (hA.1.2 _ a1.1 a1.2).2.2.2
  have := rst_r hA a1 (i := sIx s k + 1) (by omega) (sLen s (sJb s k) - (sIx s k + 1)).toNat (by omega)
  rw [tlO_rst hA hk] at this
  omega
/-- which goes first -/
abbrev prc (s : Nat → Int) (k l : Int) : Prop := tlO s l < tlO s k ∨ (tlO s l = tlO s k ∧ k < l)
theorem x2_precedes {k l : Int} (hA : WfA (u 0)) (hk : 0 ≤ k ∧ k < u 0 1) (hl : 0 ≤ l ∧ l < u 0 1) : zMet yX2_precedes (ws_ yX2_precedes cX2_precedes 3 (some .boolean)) 6 [.ref b, .ref (b + 52 + k.toNat), .ref (b + 52 + l.toNat)] (sH b u g) (zRet (.int (iI (bI (prc (u 0) k l)))) (sH b u g)) 0 0 := by
  have h20 := hA.2.1.1
  have t1 := tlO_rr hA hk
  have t2 := tlO_rr hA hl
  refine zMet.of (by decide) (Nat.le_of_ble_eq_true rfl) fun X K => ?_
  refine z_aload_n K dX2_precedes_0 rfl rfl rfl ?_
  refine z_aload_n K dX2_precedes_1 rfl rfl rfl ?_
  refine z_callV K (x2_tail hA ⟨by omega, by omega⟩) cV_X2_232_X2 (sH_shop) rfl rfl rfl (by omega) (by omega) (by omega) (Nat.le_of_ble_eq_true rfl) dX2_precedes_2 zrX (zrK ?_)
  refine z_aload_n K dX2_precedes_5 rfl rfl rfl ?_
  refine z_aload_n K dX2_precedes_6 rfl rfl rfl ?_
  refine z_callV K (x2_tail hA ⟨by omega, by omega⟩) cV_X2_232_X2 (sH_shop) rfl rfl rfl (by omega) (by omega) (by omega) (Nat.le_of_ble_eq_true rfl) dX2_precedes_7 zrX (zrK ?_)
  refine j_icmp_eq (tgt := 34) K dX2_precedes_10 rfl (by omega) (by omega) (fun c_10 => ?_) (fun c_10 => ?_)
  · refine z_aload_n K dX2_precedes_34 rfl rfl rfl ?_
    refine z_get K fd_X2_115_5 (sH_op ⟨by omega, by omega⟩ (by omega)) rfl dX2_precedes_35 ?_
    refine z_aload_n K dX2_precedes_38 rfl rfl rfl ?_
    refine z_get K fd_X2_115_5 (sH_op ⟨by omega, by omega⟩ (by omega)) rfl dX2_precedes_39 ?_
    refine j_icmp_ge (tgt := 49) K dX2_precedes_42 rfl (by omega) (by omega) (fun c_42 => ?_) (fun c_42 => ?_)
    · refine j_iconst K dX2_precedes_49 ?_
      exact z_zret K (iI_b (by omega)) (by omega) (by omega) (⟨by first | rw [bI_t (show prc (u 0) k l by omega)] | rw [bI_f (show ¬ prc (u 0) k l by omega)], rfl⟩) dX2_precedes_50
    · refine j_iconst K dX2_precedes_45 ?_
      refine z_goto (tgt := 50) K dX2_precedes_46 rfl ?_
      exact z_zret K (iI_b (by omega)) (by omega) (by omega) (⟨by first | rw [bI_t (show prc (u 0) k l by omega)] | rw [bI_f (show ¬ prc (u 0) k l by omega)], rfl⟩) dX2_precedes_50
  · refine z_aload_n K dX2_precedes_13 rfl rfl rfl ?_
    refine z_aload_n K dX2_precedes_14 rfl rfl rfl ?_
    refine z_callV K (x2_tail hA ⟨by omega, by omega⟩) cV_X2_232_X2 (sH_shop) rfl rfl rfl (by omega) (by omega) (by omega) (Nat.le_of_ble_eq_true rfl) dX2_precedes_15 zrX (zrK ?_)
    refine z_aload_n K dX2_precedes_18 rfl rfl rfl ?_
    refine z_aload_n K dX2_precedes_19 rfl rfl rfl ?_
    refine z_callV K (x2_tail hA ⟨by omega, by omega⟩) cV_X2_232_X2 (sH_shop) rfl rfl rfl (by omega) (by omega) (by omega) (Nat.le_of_ble_eq_true rfl) dX2_precedes_20 zrX (zrK ?_)
    refine j_icmp_le (tgt := 30) K dX2_precedes_23 rfl (by omega) (by omega) (fun c_23 => ?_) (fun c_23 => ?_)
    · refine j_iconst K dX2_precedes_30 ?_
      refine z_goto (tgt := 50) K dX2_precedes_31 rfl ?_
      exact z_zret K (iI_b (by omega)) (by omega) (by omega) (⟨by first | rw [bI_t (show prc (u 0) k l by omega)] | rw [bI_f (show ¬ prc (u 0) k l by omega)], rfl⟩) dX2_precedes_50
    · refine j_iconst K dX2_precedes_26 ?_
      refine z_goto (tgt := 50) K dX2_precedes_27 rfl ?_
      exact z_zret K (iI_b (by omega)) (by omega) (by omega) (⟨by first | rw [bI_t (show prc (u 0) k l by omega)] | rw [bI_f (show ¬ prc (u 0) k l by omega)], rfl⟩) dX2_precedes_50
theorem x2_head {k : Int} (hA : WfA (u 0)) (hk : 0 ≤ k ∧ k < u 0 1) : zMet yX2_head (ws_ yX2_head cX2_head 4 (some .int)) 4 [.ref b, .ref (b + 52 + k.toNat)] (sH b u g) (zRet (.int (iI (hdO (u 0) k))) (sH b u g)) 0 0 := by
  have h20 := hA.2.1.1
  have h05 := hA.1.1
  obtain ⟨a1, a2, a3, a4, a5, a6⟩ := hA.2.1.2 k hk.1 hk.2
  have hl := (hA.1.2 _ a1.1 a1.2).2.2.2
  refine zMet.of (by decide) (Nat.le_of_ble_eq_true rfl) fun X K => ?_
  have loop : ∀ (r i : Nat), (i : Int) + r = sIx (u 0) k → ∀ env, zsub env [(0, .ref b), (1, .ref (b + 52 + k.toNat)), (2, .int (iI (hdN (u 0) (sJb (u 0) k) i))), (3, .int (iI i))] → zW X (zRet (.int (iI (hdO (u 0) k))) (sH b u g)) (sH b u g) 0 0 20 env [] := by
    intro r
    induction r with
    | zero =>
      intro i hi env he
      refine zW.cut he ?_
      have e : hdO (u 0) k = hdN (u 0) (sJb (u 0) k) i := by unfold hdO; rw [show (sIx (u 0) k).toNat = i by omega]
      (try dsimp only [sRel, sDue, sWt, sLen, sSeq, sJb, sMc, sDu, sFa, sIx, sSu, sBn, sBf, sBl, sOn, sOr] at *)
      refine z_iload_n K dX2_head_20 rfl rfl ?_
      refine z_aload_n K dX2_head_21 rfl rfl rfl ?_
      refine z_get K fd_X2_140_5 (sH_op ⟨by omega, by omega⟩ (by omega)) rfl dX2_head_22 ?_
      refine j_icmp_ge (tgt := 64) K dX2_head_25 rfl (by omega) (by omega) (fun c_25 => ?_) (fun c_25 => ?_)
      · refine z_iload_n K dX2_head_64 rfl rfl ?_
        exact z_iret K (by omega) (by omega) (⟨by rw [e], rfl⟩) dX2_head_65
      · exact absurd c_25 (by omega)
    | succ r ih =>
      intro i hi env he
      refine zW.cut he ?_
      have hs := hA.2.2.1 (sJb (u 0) k) i a1.1 a1.2 (by omega) (by omega)
      have hd := (hA.2.1.2 _ hs.1.1 hs.1.2).2.2.1
      have hr := hdN_r hA a1 i (by omega)
      have nx := ih (i + 1) (by omega)
      (try dsimp only [sRel, sDue, sWt, sLen, sSeq, sJb, sMc, sDu, sFa, sIx, sSu, sBn, sBf, sBl, sOn, sOr] at *)
      refine z_iload_n K dX2_head_20 rfl rfl ?_
      refine z_aload_n K dX2_head_21 rfl rfl rfl ?_
      refine z_get K fd_X2_140_5 (sH_op ⟨by omega, by omega⟩ (by omega)) rfl dX2_head_22 ?_
      refine j_icmp_ge (tgt := 64) K dX2_head_25 rfl (by omega) (by omega) (fun c_25 => ?_) (fun c_25 => ?_)
      · exact absurd c_25 (by omega)
      · refine z_iload_n K dX2_head_28 rfl rfl ?_
        refine z_aload_n K dX2_head_29 rfl rfl rfl ?_
        refine z_get K fd_X2_12_2 (sH_shop) rfl dX2_head_30 ?_
        refine z_aload_n K dX2_head_33 rfl rfl rfl ?_
        refine z_get K fd_X2_79_5 (sH_op ⟨by omega, by omega⟩ (by omega)) rfl dX2_head_34 ?_
        refine z_callV K (gt_jobs ⟨by omega, by omega⟩ (by omega)) cV_X2_59_J2 (sH_jobs) rfl rfl rfl (by omega) (by omega) (by omega) (Nat.le_of_ble_eq_true rfl) dX2_head_37 zrX (zrK ?_)
        refine z_castS K (sH_job ⟨by omega, by omega⟩ (by omega)) rfl q417 dX2_head_40 ?_
        refine z_get K fd_X2_111_4 (sH_job ⟨by omega, by omega⟩ (by omega)) rfl dX2_head_43 ?_
        refine z_iload_n K dX2_head_46 rfl rfl ?_
        refine z_callV K (gt_jop ⟨by omega, by omega⟩ (by omega) ⟨by omega, by omega⟩ (by omega)) cV_X2_59_J2 (sH_jbL ⟨by omega, by omega⟩ (by omega)) rfl rfl rfl (by omega) (by omega) (by omega) (Nat.le_of_ble_eq_true rfl) dX2_head_47 zrX (zrK ?_)
        refine z_castS K (sH_op ⟨by omega, by omega⟩ (by omega)) rfl q408 dX2_head_50 ?_
        refine z_get K fd_X2_85_5 (sH_op ⟨by omega, by omega⟩ (by omega)) rfl dX2_head_53 ?_
        refine j_iadd K dX2_head_56 ?_
        refine z_istore_n K dX2_head_57 rfl (by decide) rfl ?_
        refine j_iinc K dX2_head_58 rfl (by decide) rfl ?_
        refine z_goto (tgt := 20) K dX2_head_61 rfl ?_
        exact nx _ ⟨rfl, rfl, rfl, rfl, trivial⟩
  have go := loop (sIx (u 0) k).toNat 0 (by omega)
  clear loop
  (try dsimp only [sRel, sDue, sWt, sLen, sSeq, sJb, sMc, sDu, sFa, sIx, sSu, sBn, sBf, sBl, sOn, sOr] at *)
  refine z_aload_n K dX2_head_0 rfl rfl rfl ?_
  refine z_get K fd_X2_12_2 (sH_shop) rfl dX2_head_1 ?_
  refine z_aload_n K dX2_head_4 rfl rfl rfl ?_
  refine z_get K fd_X2_79_5 (sH_op ⟨by omega, by omega⟩ (by omega)) rfl dX2_head_5 ?_
  refine z_callV K (gt_jobs ⟨by omega, by omega⟩ (by omega)) cV_X2_59_J2 (sH_jobs) rfl rfl rfl (by omega) (by omega) (by omega) (Nat.le_of_ble_eq_true rfl) dX2_head_8 zrX (zrK ?_)
  refine z_castS K (sH_job ⟨by omega, by omega⟩ (by omega)) rfl q417 dX2_head_11 ?_
  refine z_callV K (x5_release ⟨by omega, by omega⟩ (by omega)) cV_X2_65_X5 (sH_job ⟨by omega, by omega⟩ (by omega)) rfl rfl rfl (by omega) (by omega) (by omega) (Nat.le_of_ble_eq_true rfl) dX2_head_14 zrX (zrK ?_)
  refine z_istore_n K dX2_head_17 rfl (by decide) rfl ?_
  refine j_iconst K dX2_head_18 ?_
  refine z_istore_n K dX2_head_19 rfl (by decide) rfl ?_
  exact go _ ⟨rfl, rfl, rfl, rfl, trivial⟩
theorem x2_makespanWith {op un : Int} (hb : 1000 ≤ b) (hA : WfA (u 0)) (hO : WfO (u 0)) (hB : BkOk b u g) (hop : -1 ≤ op ∧ op ≤ 100) (hun : 0 ≤ un ∧ un ≤ 3000) :
    zMet yX2_makespanWith (ws_ yX2_makespanWith cX2_makespanWith 4 (some .int)) 7 [.ref b, .int (iI op), .int (iI un)] (sH b u g) (fun z h' => ∃ u' rd st, z = .inl (some (.int (iI (mkS (u 0) st)))) ∧ h' = sH b u' g ∧ Tp (u 0) (oB 0) op un rd st ∧ Tq (u 0) (oB 0) st ∧ u' 0 = u 0 ∧ u' 5 2 = -1 ∧ u' 5 3 = un ∧ (T3 u → T3 u') ∧ ∀ f, 6 ≤ f → u' f = u f) 0 0 := by
  refine zMet.of (by decide) (Nat.le_of_ble_eq_true rfl) fun X K => ?_
  have w0 : tset (tset u 5 2 op) 5 3 un 0 = u 0 := rfl
  have hBv : BkOk b (tset (tset u 5 2 op) 5 3 un) g := hB
  have hsc := x2_isScheduled (b := b) (u := tset (tset u 5 2 op) 5 3 un) (g := g) (a := 0) (bb := 3200) (by decide) hb (by omega) (Or.inr (by show un ≤ 3200; omega)) hA hO hBv (by show -1 ≤ op ∧ op ≤ 100; omega) (by show 0 ≤ un ∧ un ≤ 3000; omega)
  have c15 : ∀ (u2 : tW) (rd st : Nat → Int), SK (tset (tset u 5 2 op) 5 3 un) u2 → SR (u 0) (oB 0) op un rd st u2 → Tp (u 0) (oB 0) op un rd st → Tq (u 0) (oB 0) st → ∀ env, zsub env [(0, .ref b)] → zW X (fun z h' => ∃ u' rd st, z = .inl (some (.int (iI (mkS (u 0) st)))) ∧ h' = sH b u' g ∧ Tp (u 0) (oB 0) op un rd st ∧ Tq (u 0) (oB 0) st ∧ u' 0 = u 0 ∧ u' 5 2 = -1 ∧ u' 5 3 = un ∧ (T3 u → T3 u') ∧ ∀ f, 6 ≤ f → u' f = u f) (sH b u2 g) 0 0 15 env [.int (iI (bI (cntU st (u 0 1).toNat = 0)))] := by
    intro u2 rd st hK2 hR2 hT2 hQ2 env he
    refine zW.cut he ?_
    obtain ⟨e3, -, -, -, e4, e5, e6⟩ := id hR2
    have hcr := cntU_r st (u 0 1).toNat
    have hfr : ∀ f, 6 ≤ f → tset u2 5 2 (-1) f = u f := fun f hf => by rw [tset_g (by omega), hK2.1 f (by omega) (by omega) (by omega) (by omega) (by omega), tset_g (by omega), tset_g (by omega)]
    have hv : tset u2 5 2 (-1) 5 0 = u2 5 0 := rfl
    by_cases hz : cntU st (u 0 1).toNat = 0
    · have hv : mkS (u 0) st = u2 5 0 := by unfold mkS; rw [if_neg (by omega), e4, gMx_all _ hz]
      refine z_istore_n K dX2_makespanWith_15 rfl (by decide) rfl ?_
      refine z_aload_n K dX2_makespanWith_16 rfl rfl rfl ?_
      refine j_iconst K dX2_makespanWith_17 ?_
      refine z_putE K fd_X2_43_2 ⟨_, rfl, Or.inl rfl⟩ (sH_shop) (by omega) (Nat.le_of_ble_eq_true rfl) (zf_i) dX2_makespanWith_18 (sH_n2) ?_
      refine z_iload_n K dX2_makespanWith_21 rfl rfl ?_
      refine j_if_eq (tgt := 32) K dX2_makespanWith_22 rfl (b01r _) (fun c_22 => ?_) (fun c_22 => ?_)
      · exact absurd (bI_eq.mp c_22) (fun q => q hz)
      · refine z_aload_n K dX2_makespanWith_25 rfl rfl rfl ?_
        refine z_get K fd_X2_164_2 (sH_shop) rfl dX2_makespanWith_26 ?_
        refine z_goto (tgt := 33) K dX2_makespanWith_29 rfl ?_
        exact z_iret K (by omega) (by omega) (⟨_, rd, st, by rw [hv]; rfl, rfl, hT2, hQ2, e3, rfl, e6, fun z => hK2.2.2.2 z, hfr⟩) dX2_makespanWith_33
    · have hv : mkS (u 0) st = -1 := by unfold mkS; rw [if_pos (by omega)]
      refine z_istore_n K dX2_makespanWith_15 rfl (by decide) rfl ?_
      refine z_aload_n K dX2_makespanWith_16 rfl rfl rfl ?_
      refine j_iconst K dX2_makespanWith_17 ?_
      refine z_putE K fd_X2_43_2 ⟨_, rfl, Or.inl rfl⟩ (sH_shop) (by omega) (Nat.le_of_ble_eq_true rfl) (zf_i) dX2_makespanWith_18 (sH_n2) ?_
      refine z_iload_n K dX2_makespanWith_21 rfl rfl ?_
      refine j_if_eq (tgt := 32) K dX2_makespanWith_22 rfl (b01r _) (fun c_22 => ?_) (fun c_22 => ?_)
      · refine j_iconst K dX2_makespanWith_32 ?_
        exact z_iret K (by omega) (by omega) (⟨_, rd, st, by rw [hv], rfl, hT2, hQ2, e3, rfl, e6, fun z => hK2.2.2.2 z, hfr⟩) dX2_makespanWith_33
      · exact absurd (bI_ne.mp c_22) hz
  refine z_aload_n K dX2_makespanWith_0 rfl rfl rfl ?_
  refine z_iload_n K dX2_makespanWith_1 rfl rfl ?_
  refine z_putE K fd_X2_43_2 ⟨_, rfl, Or.inl rfl⟩ (sH_shop) (by omega) (Nat.le_of_ble_eq_true rfl) (zf_i) dX2_makespanWith_2 (sH_n2) ?_
  refine z_aload_n K dX2_makespanWith_5 rfl rfl rfl ?_
  refine z_iload_n K dX2_makespanWith_6 rfl rfl ?_
  refine z_putE K fd_X2_157_2 ⟨_, rfl, Or.inl rfl⟩ (sH_shop) (by omega) (Nat.le_of_ble_eq_true rfl) (zf_i) dX2_makespanWith_7 (sH_n3) ?_
  refine z_aload_n K dX2_makespanWith_10 rfl rfl rfl ?_
  refine j_iconst K dX2_makespanWith_11 ?_
  refine z_callV K (hsc) cV_X2_182_X2 (sH_shop) rfl rfl rfl (by omega) (by omega) (by omega) (Nat.le_of_ble_eq_true rfl) dX2_makespanWith_12 (fun _ _ ⟨_, _, _, e, _⟩ => nomatch e) ?_
  rintro _ _ ⟨u2, rd, st, ez, rfl, hK2, hR2, hT2, hQ2, -⟩
  cases ez
  exact c15 u2 rd st hK2 hR2 hT2 hQ2 _ ⟨rfl, trivial⟩
end XHd

