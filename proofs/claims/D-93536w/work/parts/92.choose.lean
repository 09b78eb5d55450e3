/-! ===== the component: the dispatcher chooses ===== -/
def kyF (s : Nat → Int) (rl k : Int) : Int := if rl = 0 then sDu s k else if rl = 1 then - rOf s k else if rl = 2 then sDue s (sJb s k) else 0
theorem kyF_r {s : Nat → Int} (hA : WfA s) {rl k : Int} (hk : 0 ≤ k ∧ k < s 1) : -1000 ≤ kyF s rl k ∧ kyF s rl k ≤ 1000 := by
  obtain ⟨a1, a2, a3, -⟩ := hA.2.1.2 k hk.1 hk.2
  have b := (hA.1.2 _ a1.1 a1.2).2.1
  have c := rOf_r hA hk
  unfold kyF
  split
  · omega
  · split
    · omega
    · split <;> omega
theorem kyF_p {s : Nat → Int} {rl k l : Int} (hr : 0 ≤ rl ∧ rl ≤ 3) : kyF s rl k < kyF s rl l ↔ pfr s rl k l := by
  unfold kyF pfr
  rcases (by omega : rl = 0 ∨ rl = 1 ∨ rl = 2 ∨ rl = 3) with rfl | rfl | rfl | rfl
  · rw [if_pos rfl, if_pos rfl]; omega
  · rw [if_neg (by decide), if_pos rfl, if_neg (by decide), if_pos rfl]; omega
  · rw [if_neg (by decide), if_neg (by decide), if_pos rfl, if_neg (by decide), if_neg (by decide), if_pos rfl]; omega
  · rw [if_neg (by decide), if_neg (by decide), if_neg (by decide), if_neg (by decide), if_neg (by decide), if_neg (by decide)]; omega
section XCs
variable {b D : Nat} {u : tW} {g : zH} {rl ea : Int} {fx gx : Nat → Int}
theorem x10_key {k : Int} (hD : b + 72 ≤ D) (hA : WfA (u 0)) (hr : 0 ≤ rl ∧ rl ≤ 3) (hk : 0 ≤ k ∧ k < u 0 1) : zMet yX10_key (ws_ yX10_key cX10_key 3 (some .int)) 5 [.ref D, .ref (b + 52 + k.toNat)] (sH b u (dp D b rl ea fx gx g)) (zRet (.int (iI (kyF (u 0) rl k))) (sH b u (dp D b rl ea fx gx g))) 0 0 := by
  have h20 := hA.2.1.1
  have h05 := hA.1.1
  obtain ⟨a1, a2, a3, a4, a5, a6⟩ := hA.2.1.2 k hk.1 hk.2
  have hl := (hA.1.2 _ a1.1 a1.2).2.2.2
  have hro := rOf_r hA hk
  refine zMet.of (by decide) (Nat.le_of_ble_eq_true rfl) fun X K => ?_
  rcases (by omega : rl = 0 ∨ rl = 1 ∨ rl = 2 ∨ rl = 3) with rfl | rfl | rfl | rfl
  · have e : kyF (u 0) 0 k = sDu (u 0) k := if_pos rfl
    (try dsimp only [sRel, sDue, sWt, sLen, sSeq, sJb, sMc, sDu, sFa, sIx, sSu, sBn, sBf, sBl, sOn, sOr] at *)
    refine z_aload_n K dX10_key_0 rfl rfl rfl ?_
    refine z_get K fd_X10_18_9 (sdp_0 hD) rfl dX10_key_1 ?_
    refine z_get K fd_X10_63_2 (sH_shop) rfl dX10_key_4 ?_
    refine z_aload_n K dX10_key_7 rfl rfl rfl ?_
    refine z_get K fd_X10_57_5 (sH_op ⟨by omega, by omega⟩ (by omega)) rfl dX10_key_8 ?_
    refine z_callV K (gt_jobs ⟨by omega, by omega⟩ (by omega)) cV_X10_35_J2 (sH_jobs) rfl rfl rfl (by omega) (by omega) (by omega) (Nat.le_of_ble_eq_true rfl) dX10_key_11 zrX (zrK ?_)
    refine z_castS K (sH_job ⟨by omega, by omega⟩ (by omega)) rfl q1170 dX10_key_14 ?_
    refine z_astore_n K dX10_key_17 rfl rfl (by decide) rfl ?_
    refine z_aload_n K dX10_key_18 rfl rfl rfl ?_
    refine z_get K fd_X10_22_9 (sdp_0 hD) rfl dX10_key_19 ?_
    refine z_tableIn (tgt := 48) (off := 26) K dX10_key_22 (by decide +kernel) (by decide +kernel) (by decide +kernel) (by decide) ?_
    refine z_aload_n K dX10_key_48 rfl rfl rfl ?_
    refine z_get K fd_X10_60_5 (sH_op ⟨by omega, by omega⟩ (by omega)) rfl dX10_key_49 ?_
    exact z_iret K (by omega) (by omega) (⟨by rw [e], rfl⟩) dX10_key_52
  · have e : kyF (u 0) 1 k = - rOf (u 0) k := rfl
    have hw := x5_work (b := b) (u := u) (g := dp D b 1 ea fx gx g) (j := sJb (u 0) k) (x := sIx (u 0) k) hA a1 (by omega)
    rw [show rst (u 0) (sJb (u 0) k) (sIx (u 0) k) (u 0 (17 + sJb (u 0) k).toNat - sIx (u 0) k).toNat = rOf (u 0) k from rfl] at hw
    (try dsimp only [sRel, sDue, sWt, sLen, sSeq, sJb, sMc, sDu, sFa, sIx, sSu, sBn, sBf, sBl, sOn, sOr] at *)
    refine z_aload_n K dX10_key_0 rfl rfl rfl ?_
    refine z_get K fd_X10_18_9 (sdp_0 hD) rfl dX10_key_1 ?_
    refine z_get K fd_X10_63_2 (sH_shop) rfl dX10_key_4 ?_
    refine z_aload_n K dX10_key_7 rfl rfl rfl ?_
    refine z_get K fd_X10_57_5 (sH_op ⟨by omega, by omega⟩ (by omega)) rfl dX10_key_8 ?_
    refine z_callV K (gt_jobs ⟨by omega, by omega⟩ (by omega)) cV_X10_35_J2 (sH_jobs) rfl rfl rfl (by omega) (by omega) (by omega) (Nat.le_of_ble_eq_true rfl) dX10_key_11 zrX (zrK ?_)
    refine z_castS K (sH_job ⟨by omega, by omega⟩ (by omega)) rfl q1170 dX10_key_14 ?_
    refine z_astore_n K dX10_key_17 rfl rfl (by decide) rfl ?_
    refine z_aload_n K dX10_key_18 rfl rfl rfl ?_
    refine z_get K fd_X10_22_9 (sdp_0 hD) rfl dX10_key_19 ?_
    refine z_tableIn (tgt := 53) (off := 31) K dX10_key_22 (by decide +kernel) (by decide +kernel) (by decide +kernel) (by decide) ?_
    refine z_aload_n K dX10_key_53 rfl rfl rfl ?_
    refine z_aload_n K dX10_key_54 rfl rfl rfl ?_
    refine z_get K fd_X10_97_5 (sH_op ⟨by omega, by omega⟩ (by omega)) rfl dX10_key_55 ?_
    refine z_callV K (hw) cV_X10_100_X5 (sH_job ⟨by omega, by omega⟩ (by omega)) rfl rfl rfl (by omega) (by omega) (by omega) (Nat.le_of_ble_eq_true rfl) dX10_key_58 zrX (zrK ?_)
    refine j_ineg K dX10_key_61 ?_
    exact z_iret K (by omega) (by omega) (⟨by rw [e], rfl⟩) dX10_key_62
  · have e : kyF (u 0) 2 k = sDue (u 0) (sJb (u 0) k) := rfl
    (try dsimp only [sRel, sDue, sWt, sLen, sSeq, sJb, sMc, sDu, sFa, sIx, sSu, sBn, sBf, sBl, sOn, sOr] at *)
    refine z_aload_n K dX10_key_0 rfl rfl rfl ?_
    refine z_get K fd_X10_18_9 (sdp_0 hD) rfl dX10_key_1 ?_
    refine z_get K fd_X10_63_2 (sH_shop) rfl dX10_key_4 ?_
    refine z_aload_n K dX10_key_7 rfl rfl rfl ?_
    refine z_get K fd_X10_57_5 (sH_op ⟨by omega, by omega⟩ (by omega)) rfl dX10_key_8 ?_
    refine z_callV K (gt_jobs ⟨by omega, by omega⟩ (by omega)) cV_X10_35_J2 (sH_jobs) rfl rfl rfl (by omega) (by omega) (by omega) (Nat.le_of_ble_eq_true rfl) dX10_key_11 zrX (zrK ?_)
    refine z_castS K (sH_job ⟨by omega, by omega⟩ (by omega)) rfl q1170 dX10_key_14 ?_
    refine z_astore_n K dX10_key_17 rfl rfl (by decide) rfl ?_
    refine z_aload_n K dX10_key_18 rfl rfl rfl ?_
    refine z_get K fd_X10_22_9 (sdp_0 hD) rfl dX10_key_19 ?_
    refine z_tableIn (tgt := 63) (off := 41) K dX10_key_22 (by decide +kernel) (by decide +kernel) (by decide +kernel) (by decide) ?_
    refine z_aload_n K dX10_key_63 rfl rfl rfl ?_
    refine z_callV K (x5_due ⟨by omega, by omega⟩ (by omega)) cV_X10_103_X5 (sH_job ⟨by omega, by omega⟩ (by omega)) rfl rfl rfl (by omega) (by omega) (by omega) (Nat.le_of_ble_eq_true rfl) dX10_key_64 zrX (zrK ?_)
    exact z_iret K (by omega) (by omega) (⟨by rw [e], rfl⟩) dX10_key_67
  · have e : kyF (u 0) 3 k = 0 := rfl
    (try dsimp only [sRel, sDue, sWt, sLen, sSeq, sJb, sMc, sDu, sFa, sIx, sSu, sBn, sBf, sBl, sOn, sOr] at *)
    refine z_aload_n K dX10_key_0 rfl rfl rfl ?_
    refine z_get K fd_X10_18_9 (sdp_0 hD) rfl dX10_key_1 ?_
    refine z_get K fd_X10_63_2 (sH_shop) rfl dX10_key_4 ?_
    refine z_aload_n K dX10_key_7 rfl rfl rfl ?_
    refine z_get K fd_X10_57_5 (sH_op ⟨by omega, by omega⟩ (by omega)) rfl dX10_key_8 ?_
    refine z_callV K (gt_jobs ⟨by omega, by omega⟩ (by omega)) cV_X10_35_J2 (sH_jobs) rfl rfl rfl (by omega) (by omega) (by omega) (Nat.le_of_ble_eq_true rfl) dX10_key_11 zrX (zrK ?_)
    refine z_castS K (sH_job ⟨by omega, by omega⟩ (by omega)) rfl q1170 dX10_key_14 ?_
    refine z_astore_n K dX10_key_17 rfl rfl (by decide) rfl ?_
    refine z_aload_n K dX10_key_18 rfl rfl rfl ?_
    refine z_get K fd_X10_22_9 (sdp_0 hD) rfl dX10_key_19 ?_
    refine z_tableOut (tgt := 68) K dX10_key_22 (by decide +kernel) (by decide) ?_
    refine j_iconst K dX10_key_68 ?_
    exact z_iret K (by omega) (by omega) (⟨by rw [e], rfl⟩) dX10_key_69
theorem BI.sta {s g fx : Nat → Int} (h : BI s g fx) {k : Int} (hk : 0 ≤ k ∧ k < s 1) (hi : sIx s k = g (sJb s k).toNat) : (sBef s k ≠ -1 → 0 ≤ fx (sBef s k).toNat ∧ fx (sBef s k).toNat ≤ 5000) ∧ (0 ≤ sOn s (sMc s k) ∧ sOn s (sMc s k) ≤ 5) ∧ (0 < sOn s (sMc s k) → (0 ≤ sOr s (sMc s k) (sOn s (sMc s k) - 1) ∧ sOr s (sMc s k) (sOn s (sMc s k) - 1) < s 1) ∧ 0 ≤ fx (sOr s (sMc s k) (sOn s (sMc s k) - 1)).toNat ∧ fx (sOr s (sMc s k) (sOn s (sMc s k) - 1)).toNat ≤ 5000) := by
  obtain ⟨a1, a2, a3, a4, a5, a6⟩ := h.A.2.1.2 k hk.1 hk.2
  obtain ⟨o1, o2, o3, o4⟩ := h.O (sMc s k) a2.1 a2.2
  have hr := h.rr
  refine ⟨fun hb => ?_, o1, fun hz => ?_⟩
  · unfold sBef at hb ⊢
    by_cases z : sIx s k = 0
    · rw [if_pos z] at hb; exact absurd rfl hb
    · rw [if_neg z]
      have q := h.A.2.2.1 (sJb s k) (sIx s k - 1) a1.1 a1.2 (by omega) (by omega)
      have := h.F _ ⟨q.1, by rw [q.2.1, q.2.2]; omega⟩
      omega
  · have q := o2 (sOn s (sMc s k) - 1) (by omega) (by omega)
    have := h.F _ q.1
    exact ⟨q.1.1, by omega⟩
/-- an operation, or none -/
def opV (b : Nat) (c : Int) : Value := if c = -1 then .null else .ref (b + 52 + c.toNat)
theorem opV_n {b : Nat} : opV b (-1) = .null := if_pos rfl
theorem opV_y {b : Nat} {c : Int} (h : c ≠ -1) : opV b c = .ref (b + 52 + c.toNat) := if_neg h
theorem x10_choose (hD : b + 72 ≤ D) (hB : BkOk b u g) (hTp : zTop g D) (hr : 0 ≤ rl ∧ rl ≤ 3) (hea : 0 ≤ ea ∧ ea ≤ 999) (hI : BI (u 0) gx fx) : zMet yX10_choose (ws_ yX10_choose cX10_choose 7 (some (.object "SetupJobShop$Operation"))) 6 [.ref D] (sH b u (dp D b rl ea fx gx g)) (zRet (opV b (chs (u 0) gx fx rl ea (u 0 0).toNat).1) (sH b u (dp D b rl ea fx gx g))) 0 0 := by
  have hA := hI.A
  have h20 := hA.2.1.1
  have h05 := hA.1.1
  refine zMet.of (by decide) (Nat.le_of_ble_eq_true rfl) fun X K => ?_
  have loop : ∀ (r j : Nat), (j : Int) + r = u 0 0 → ∀ env, zsub env [(0, .ref D), (1, opV b (chs (u 0) gx fx rl ea j).1), (2, .int (iI (chs (u 0) gx fx rl ea j).2)), (3, .int (iI j))] → zW X (zRet (opV b (chs (u 0) gx fx rl ea (u 0 0).toNat).1) (sH b u (dp D b rl ea fx gx g))) (sH b u (dp D b rl ea fx gx g)) 0 0 6 env [] := by
    intro r
    induction r with
    | zero =>
      intro j hj env he
      refine zW.cut he ?_
      rw [show (u 0 0).toNat = j by omega]
      rcases chs_ok (u := rl) (t := ea) (fx := fx) hA hI.G j (by omega) with ⟨z, -⟩ | ⟨k, hk, -, z⟩
      · rw [z, opV_n]
        refine z_iload_n K dX10_choose_6 rfl rfl ?_
        refine z_aload_n K dX10_choose_7 rfl rfl rfl ?_
        refine z_get K fd_X10_18_9 (sdp_0 hD) rfl dX10_choose_8 ?_
        refine z_get K fd_X10_63_2 (sH_shop) rfl dX10_choose_11 ?_
        refine z_callV K (jl_size sH_jobs) cV_X10_106_J2 (sH_jobs) rfl rfl rfl (by omega) (by omega) (by omega) (Nat.le_of_ble_eq_true rfl) dX10_choose_14 zrX (zrK ?_)
        refine j_icmp_ge (tgt := 125) K dX10_choose_17 rfl (by omega) (by omega) (fun c_17 => ?_) (fun c_17 => ?_)
        · refine z_aload_n K dX10_choose_125 rfl rfl rfl ?_
          exact z_aret K (by simp) rfl (by omega) (by omega) (⟨rfl, rfl⟩) dX10_choose_126
        · exact absurd c_17 (by omega)
      · rw [z]
        dsimp only
        rw [opV_y (c := k) (show k ≠ -1 by omega)]
        refine z_iload_n K dX10_choose_6 rfl rfl ?_
        refine z_aload_n K dX10_choose_7 rfl rfl rfl ?_
        refine z_get K fd_X10_18_9 (sdp_0 hD) rfl dX10_choose_8 ?_
        refine z_get K fd_X10_63_2 (sH_shop) rfl dX10_choose_11 ?_
        refine z_callV K (jl_size sH_jobs) cV_X10_106_J2 (sH_jobs) rfl rfl rfl (by omega) (by omega) (by omega) (Nat.le_of_ble_eq_true rfl) dX10_choose_14 zrX (zrK ?_)
        refine j_icmp_ge (tgt := 125) K dX10_choose_17 rfl (by omega) (by omega) (fun c_17 => ?_) (fun c_17 => ?_)
        · refine z_aload_n K dX10_choose_125 rfl rfl rfl ?_
          exact z_aret K (by simp) rfl (by omega) (by omega) (⟨rfl, rfl⟩) dX10_choose_126
        · exact absurd c_17 (by omega)
    | succ r ih =>
      intro j hj env he
      refine zW.cut he ?_
      have nx := ih (j + 1) (by omega)
      clear ih
      have hg := hI.G j (by omega) (by omega)
      rw [Int.toNat_natCast] at hg
      have hl := (hA.1.2 j (by omega) (by omega)).2.2.2
      have e : chs (u 0) gx fx rl ea (j + 1) = if gx j < sLen (u 0) j ∧ ((chs (u 0) gx fx rl ea j).1 = -1 ∨ cst (u 0) fx ea (sSeq (u 0) j (gx j)) < (chs (u 0) gx fx rl ea j).2 ∨ (cst (u 0) fx ea (sSeq (u 0) j (gx j)) = (chs (u 0) gx fx rl ea j).2 ∧ pfr (u 0) rl (sSeq (u 0) j (gx j)) (chs (u 0) gx fx rl ea j).1)) then (sSeq (u 0) j (gx j), cst (u 0) fx ea (sSeq (u 0) j (gx j))) else chs (u 0) gx fx rl ea j := rfl
      have hch := chs_ok (u := rl) (t := ea) (fx := fx) hA hI.G j (by omega)
      generalize hx : chs (u 0) gx fx rl ea j = x at *
      by_cases hend : gx j = sLen (u 0) j
      · rw [e, if_neg (fun q => by omega)] at nx
        rcases hch with ⟨z, -⟩ | ⟨k, hk, -, z⟩
        · rw [z, opV_n] at nx ⊢
          (try dsimp only [sRel, sDue, sWt, sLen, sSeq, sJb, sMc, sDu, sFa, sIx, sSu, sBn, sBf, sBl, sOn, sOr] at *)
          refine z_iload_n K dX10_choose_6 rfl rfl ?_
          refine z_aload_n K dX10_choose_7 rfl rfl rfl ?_
          refine z_get K fd_X10_18_9 (sdp_0 hD) rfl dX10_choose_8 ?_
          refine z_get K fd_X10_63_2 (sH_shop) rfl dX10_choose_11 ?_
          refine z_callV K (jl_size sH_jobs) cV_X10_106_J2 (sH_jobs) rfl rfl rfl (by omega) (by omega) (by omega) (Nat.le_of_ble_eq_true rfl) dX10_choose_14 zrX (zrK ?_)
          refine j_icmp_ge (tgt := 125) K dX10_choose_17 rfl (by omega) (by omega) (fun c_17 => ?_) (fun c_17 => ?_)
          · exact absurd c_17 (by omega)
          · refine z_aload_n K dX10_choose_20 rfl rfl rfl ?_
            refine z_get K fd_X10_18_9 (sdp_0 hD) rfl dX10_choose_21 ?_
            refine z_get K fd_X10_63_2 (sH_shop) rfl dX10_choose_24 ?_
            refine z_iload_n K dX10_choose_27 rfl rfl ?_
            refine z_callV K (gt_jobs ⟨by omega, by omega⟩ (by omega)) cV_X10_35_J2 (sH_jobs) rfl rfl rfl (by omega) (by omega) (by omega) (Nat.le_of_ble_eq_true rfl) dX10_choose_28 zrX (zrK ?_)
            refine z_castS K (sH_job ⟨by omega, by omega⟩ (by omega)) rfl q1170 dX10_choose_31 ?_
            refine z_get K fd_X10_108_4 (sH_job ⟨by omega, by omega⟩ (by omega)) rfl dX10_choose_34 ?_
            refine z_astore K dX10_choose_37 rfl (by decide) rfl ?_
            refine z_aload_n K dX10_choose_39 rfl rfl rfl ?_
            refine z_get K fd_X10_15_9 (sdp_0 hD) rfl dX10_choose_40 ?_
            refine z_iload_n K dX10_choose_43 rfl rfl ?_
            refine j_ild K (sdp_2 hD) (by omega) (by omega) dX10_choose_44 ?_
            show zW X _ _ 0 0 _ _ (Value.int (iI (gx j)) :: _)
            refine z_aload K dX10_choose_45 rfl rfl ?_
            refine z_callV K (jl_size (sH_jbL ⟨by omega, by omega⟩ (by omega))) cV_X10_106_J2 (sH_jbL ⟨by omega, by omega⟩ (by omega)) rfl rfl rfl (by omega) (by omega) (by omega) (Nat.le_of_ble_eq_true rfl) dX10_choose_47 zrX (zrK ?_)
            refine j_icmp_ne (tgt := 56) K dX10_choose_50 rfl (by omega) (by omega) (fun c_50 => ?_) (fun c_50 => ?_)
            · exact absurd hend c_50
            · refine z_goto (tgt := 119) K dX10_choose_53 rfl ?_
              refine j_iinc K dX10_choose_119 rfl (by decide) rfl ?_
              refine z_goto (tgt := 6) K dX10_choose_122 rfl ?_
              exact nx _ ⟨rfl, rfl, rfl, rfl, trivial⟩
        · rw [z] at nx ⊢
          dsimp only at nx ⊢
          rw [opV_y (c := k) (show k ≠ -1 by omega)] at nx ⊢
          (try dsimp only [sRel, sDue, sWt, sLen, sSeq, sJb, sMc, sDu, sFa, sIx, sSu, sBn, sBf, sBl, sOn, sOr] at *)
          refine z_iload_n K dX10_choose_6 rfl rfl ?_
          refine z_aload_n K dX10_choose_7 rfl rfl rfl ?_
          refine z_get K fd_X10_18_9 (sdp_0 hD) rfl dX10_choose_8 ?_
          refine z_get K fd_X10_63_2 (sH_shop) rfl dX10_choose_11 ?_
          refine z_callV K (jl_size sH_jobs) cV_X10_106_J2 (sH_jobs) rfl rfl rfl (by omega) (by omega) (by omega) (Nat.le_of_ble_eq_true rfl) dX10_choose_14 zrX (zrK ?_)
          refine j_icmp_ge (tgt := 125) K dX10_choose_17 rfl (by omega) (by omega) (fun c_17 => ?_) (fun c_17 => ?_)
          · exact absurd c_17 (by omega)
          · refine z_aload_n K dX10_choose_20 rfl rfl rfl ?_
            refine z_get K fd_X10_18_9 (sdp_0 hD) rfl dX10_choose_21 ?_
            refine z_get K fd_X10_63_2 (sH_shop) rfl dX10_choose_24 ?_
            refine z_iload_n K dX10_choose_27 rfl rfl ?_
            refine z_callV K (gt_jobs ⟨by omega, by omega⟩ (by omega)) cV_X10_35_J2 (sH_jobs) rfl rfl rfl (by omega) (by omega) (by omega) (Nat.le_of_ble_eq_true rfl) dX10_choose_28 zrX (zrK ?_)
            refine z_castS K (sH_job ⟨by omega, by omega⟩ (by omega)) rfl q1170 dX10_choose_31 ?_
            refine z_get K fd_X10_108_4 (sH_job ⟨by omega, by omega⟩ (by omega)) rfl dX10_choose_34 ?_
            refine z_astore K dX10_choose_37 rfl (by decide) rfl ?_
            refine z_aload_n K dX10_choose_39 rfl rfl rfl ?_
            refine z_get K fd_X10_15_9 (sdp_0 hD) rfl dX10_choose_40 ?_
            refine z_iload_n K dX10_choose_43 rfl rfl ?_
            refine j_ild K (sdp_2 hD) (by omega) (by omega) dX10_choose_44 ?_
            show zW X _ _ 0 0 _ _ (Value.int (iI (gx j)) :: _)
            refine z_aload K dX10_choose_45 rfl rfl ?_
            refine z_callV K (jl_size (sH_jbL ⟨by omega, by omega⟩ (by omega))) cV_X10_106_J2 (sH_jbL ⟨by omega, by omega⟩ (by omega)) rfl rfl rfl (by omega) (by omega) (by omega) (Nat.le_of_ble_eq_true rfl) dX10_choose_47 zrX (zrK ?_)
            refine j_icmp_ne (tgt := 56) K dX10_choose_50 rfl (by omega) (by omega) (fun c_50 => ?_) (fun c_50 => ?_)
            · exact absurd hend c_50
            · refine z_goto (tgt := 119) K dX10_choose_53 rfl ?_
              refine j_iinc K dX10_choose_119 rfl (by decide) rfl ?_
              refine z_goto (tgt := 6) K dX10_choose_122 rfl ?_
              exact nx _ ⟨rfl, rfl, rfl, rfl, trivial⟩
      · have hlt : gx j < sLen (u 0) j := by omega
        obtain ⟨q1, q2, q3⟩ := hA.2.2.1 j (gx j) (by omega) (by omega) hg.1 hlt
        have hix : sIx (u 0) (sSeq (u 0) j (gx j)) = gx (sJb (u 0) (sSeq (u 0) j (gx j))).toNat := by rw [q2, q3, Int.toNat_natCast]
        have hcr := hI.cr hea q1 hix
        obtain ⟨s1, s2, s3⟩ := hI.sta q1 hix
        have hst := x10_startOf (b := b) (D := D) (u := u) (g := g) (rl := rl) (ea := ea) (fx := fx) (gx := gx) hD hA hB hTp q1 (by omega) s1 s2 s3
        have hky := x10_key (b := b) (D := D) (u := u) (g := g) (rl := rl) (ea := ea) (fx := fx) (gx := gx) hD hA hr q1
        have hkr := kyF_r (rl := rl) hA q1
        generalize hk0 : sSeq (u 0) j (gx j) = k0 at *
        have hk0' : u 0 (22 + 4 * (j : Int) + gx j).toNat = k0 := hk0
        rcases hch with ⟨z, -⟩ | ⟨k, hk, hki, z⟩
        · rw [e, if_pos ⟨hlt, Or.inl z⟩] at nx
          dsimp only at nx
          rw [opV_y (c := k0) (show k0 ≠ -1 by omega)] at nx
          rw [z, opV_n]
          clear hk0
          (try dsimp only [sRel, sDue, sWt, sLen, sSeq, sJb, sMc, sDu, sFa, sIx, sSu, sBn, sBf, sBl, sOn, sOr] at *)
          refine z_iload_n K dX10_choose_6 rfl rfl ?_
          refine z_aload_n K dX10_choose_7 rfl rfl rfl ?_
          refine z_get K fd_X10_18_9 (sdp_0 hD) rfl dX10_choose_8 ?_
          refine z_get K fd_X10_63_2 (sH_shop) rfl dX10_choose_11 ?_
          refine z_callV K (jl_size sH_jobs) cV_X10_106_J2 (sH_jobs) rfl rfl rfl (by omega) (by omega) (by omega) (Nat.le_of_ble_eq_true rfl) dX10_choose_14 zrX (zrK ?_)
          refine j_icmp_ge (tgt := 125) K dX10_choose_17 rfl (by omega) (by omega) (fun c_17 => ?_) (fun c_17 => ?_)
          · exact absurd c_17 (by omega)
          · refine z_aload_n K dX10_choose_20 rfl rfl rfl ?_
            refine z_get K fd_X10_18_9 (sdp_0 hD) rfl dX10_choose_21 ?_
            refine z_get K fd_X10_63_2 (sH_shop) rfl dX10_choose_24 ?_
            refine z_iload_n K dX10_choose_27 rfl rfl ?_
            refine z_callV K (gt_jobs ⟨by omega, by omega⟩ (by omega)) cV_X10_35_J2 (sH_jobs) rfl rfl rfl (by omega) (by omega) (by omega) (Nat.le_of_ble_eq_true rfl) dX10_choose_28 zrX (zrK ?_)
            refine z_castS K (sH_job ⟨by omega, by omega⟩ (by omega)) rfl q1170 dX10_choose_31 ?_
            refine z_get K fd_X10_108_4 (sH_job ⟨by omega, by omega⟩ (by omega)) rfl dX10_choose_34 ?_
            refine z_astore K dX10_choose_37 rfl (by decide) rfl ?_
            refine z_aload_n K dX10_choose_39 rfl rfl rfl ?_
            refine z_get K fd_X10_15_9 (sdp_0 hD) rfl dX10_choose_40 ?_
            refine z_iload_n K dX10_choose_43 rfl rfl ?_
            refine j_ild K (sdp_2 hD) (by omega) (by omega) dX10_choose_44 ?_
            show zW X _ _ 0 0 _ _ (Value.int (iI (gx j)) :: _)
            refine z_aload K dX10_choose_45 rfl rfl ?_
            refine z_callV K (jl_size (sH_jbL ⟨by omega, by omega⟩ (by omega))) cV_X10_106_J2 (sH_jbL ⟨by omega, by omega⟩ (by omega)) rfl rfl rfl (by omega) (by omega) (by omega) (Nat.le_of_ble_eq_true rfl) dX10_choose_47 zrX (zrK ?_)
            refine j_icmp_ne (tgt := 56) K dX10_choose_50 rfl (by omega) (by omega) (fun c_50 => ?_) (fun c_50 => ?_)
            · refine z_aload K dX10_choose_56 rfl rfl ?_
              refine z_aload_n K dX10_choose_58 rfl rfl rfl ?_
              refine z_get K fd_X10_15_9 (sdp_0 hD) rfl dX10_choose_59 ?_
              refine z_iload_n K dX10_choose_62 rfl rfl ?_
              refine j_ild K (sdp_2 hD) (by omega) (by omega) dX10_choose_63 ?_
              show zW X _ _ 0 0 _ _ (Value.int (iI (gx j)) :: _)
              refine z_callV K (gt_jop ⟨by omega, by omega⟩ (by omega) ⟨by omega, by omega⟩ (by omega)) cV_X10_35_J2 (sH_jbL ⟨by omega, by omega⟩ (by omega)) rfl rfl rfl (by omega) (by omega) (by omega) (Nat.le_of_ble_eq_true rfl) dX10_choose_64 zrX (zrK ?_)
              rw [hk0']
              refine z_castS K (sH_op ⟨by omega, by omega⟩ (by omega)) rfl q1164 dX10_choose_67 ?_
              refine z_astore K dX10_choose_70 rfl (by decide) rfl ?_
              refine z_aload_n K dX10_choose_72 rfl rfl rfl ?_
              refine z_aload K dX10_choose_73 rfl rfl ?_
              refine z_callV K (hst) cV_X10_109_X10 (sdp_0 hD) rfl rfl rfl (by omega) (by omega) (by omega) (Nat.le_of_ble_eq_true rfl) dX10_choose_75 zrX (zrK ?_)
              refine z_istore K dX10_choose_78 (by decide) rfl ?_
              refine z_aload_n K dX10_choose_80 rfl rfl rfl ?_
              refine z_ifnullN (tgt := 113) K dX10_choose_81 rfl ?_
              refine z_aload K dX10_choose_113 rfl rfl ?_
              refine z_astore_n K dX10_choose_115 rfl rfl (by decide) rfl ?_
              refine z_iload K dX10_choose_116 rfl ?_
              refine z_istore_n K dX10_choose_118 rfl (by decide) rfl ?_
              refine j_iinc K dX10_choose_119 rfl (by decide) rfl ?_
              refine z_goto (tgt := 6) K dX10_choose_122 rfl ?_
              exact nx _ ⟨rfl, rfl, rfl, rfl, trivial⟩
            · exact absurd c_50 hend
        · have hcr2 := hI.cr hea hk hki
          have hkc := x10_key (b := b) (D := D) (u := u) (g := g) (rl := rl) (ea := ea) (fx := fx) (gx := gx) hD hA hr hk
          have hkr2 := kyF_r (rl := rl) hA hk
          have hp := kyF_p (s := u 0) (rl := rl) (k := k0) (l := k) hr
          subst z
          dsimp only at e nx ⊢
          rw [opV_y (c := k) (show k ≠ -1 by omega)]
          have yes : (cst (u 0) fx ea k0 < cst (u 0) fx ea k ∨ (cst (u 0) fx ea k0 = cst (u 0) fx ea k ∧ kyF (u 0) rl k0 < kyF (u 0) rl k)) → ∀ env, zsub env [(0, .ref D), (1, .ref (b + 52 + k0.toNat)), (2, .int (iI (cst (u 0) fx ea k0))), (3, .int (iI ((j : Int) + 1)))] → zW X (zRet (opV b (chs (u 0) gx fx rl ea (u 0 0).toNat).1) (sH b u (dp D b rl ea fx gx g))) (sH b u (dp D b rl ea fx gx g)) 0 0 6 env [] := fun q => by
            rw [hp] at q
            rw [e, if_pos ⟨hlt, Or.inr q⟩] at nx
            dsimp only at nx
            rw [opV_y (c := k0) (show k0 ≠ -1 by omega)] at nx
            exact nx
          have no : ¬ (cst (u 0) fx ea k0 < cst (u 0) fx ea k ∨ (cst (u 0) fx ea k0 = cst (u 0) fx ea k ∧ kyF (u 0) rl k0 < kyF (u 0) rl k)) → ∀ env, zsub env [(0, .ref D), (1, .ref (b + 52 + k.toNat)), (2, .int (iI (cst (u 0) fx ea k))), (3, .int (iI ((j : Int) + 1)))] → zW X (zRet (opV b (chs (u 0) gx fx rl ea (u 0 0).toNat).1) (sH b u (dp D b rl ea fx gx g))) (sH b u (dp D b rl ea fx gx g)) 0 0 6 env [] := fun q => by
            rw [hp] at q
            rw [e, if_neg (fun w => q (w.2.resolve_left (by omega)))] at nx
            dsimp only at nx
            rw [opV_y (c := k) (show k ≠ -1 by omega)] at nx
            exact nx
          clear hk0 nx e
          (try dsimp only [sRel, sDue, sWt, sLen, sSeq, sJb, sMc, sDu, sFa, sIx, sSu, sBn, sBf, sBl, sOn, sOr] at *)
          refine z_iload_n K dX10_choose_6 rfl rfl ?_
          refine z_aload_n K dX10_choose_7 rfl rfl rfl ?_
          refine z_get K fd_X10_18_9 (sdp_0 hD) rfl dX10_choose_8 ?_
          refine z_get K fd_X10_63_2 (sH_shop) rfl dX10_choose_11 ?_
          refine z_callV K (jl_size sH_jobs) cV_X10_106_J2 (sH_jobs) rfl rfl rfl (by omega) (by omega) (by omega) (Nat.le_of_ble_eq_true rfl) dX10_choose_14 zrX (zrK ?_)
          refine j_icmp_ge (tgt := 125) K dX10_choose_17 rfl (by omega) (by omega) (fun c_17 => ?_) (fun c_17 => ?_)
          · exact absurd c_17 (by omega)
          · refine z_aload_n K dX10_choose_20 rfl rfl rfl ?_
            refine z_get K fd_X10_18_9 (sdp_0 hD) rfl dX10_choose_21 ?_
            refine z_get K fd_X10_63_2 (sH_shop) rfl dX10_choose_24 ?_
            refine z_iload_n K dX10_choose_27 rfl rfl ?_
            refine z_callV K (gt_jobs ⟨by omega, by omega⟩ (by omega)) cV_X10_35_J2 (sH_jobs) rfl rfl rfl (by omega) (by omega) (by omega) (Nat.le_of_ble_eq_true rfl) dX10_choose_28 zrX (zrK ?_)
            refine z_castS K (sH_job ⟨by omega, by omega⟩ (by omega)) rfl q1170 dX10_choose_31 ?_
            refine z_get K fd_X10_108_4 (sH_job ⟨by omega, by omega⟩ (by omega)) rfl dX10_choose_34 ?_
            refine z_astore K dX10_choose_37 rfl (by decide) rfl ?_
            refine z_aload_n K dX10_choose_39 rfl rfl rfl ?_
            refine z_get K fd_X10_15_9 (sdp_0 hD) rfl dX10_choose_40 ?_
            refine z_iload_n K dX10_choose_43 rfl rfl ?_
            refine j_ild K (sdp_2 hD) (by omega) (by omega) dX10_choose_44 ?_
            show zW X _ _ 0 0 _ _ (Value.int (iI (gx j)) :: _)
            refine z_aload K dX10_choose_45 rfl rfl ?_
            refine z_callV K (jl_size (sH_jbL ⟨by omega, by omega⟩ (by omega))) cV_X10_106_J2 (sH_jbL ⟨by omega, by omega⟩ (by omega)) rfl rfl rfl (by omega) (by omega) (by omega) (Nat.le_of_ble_eq_true rfl) dX10_choose_47 zrX (zrK ?_)
            refine j_icmp_ne (tgt := 56) K dX10_choose_50 rfl (by omega) (by omega) (fun c_50 => ?_) (fun c_50 => ?_)
            · refine z_aload K dX10_choose_56 rfl rfl ?_
              refine z_aload_n K dX10_choose_58 rfl rfl rfl ?_
              refine z_get K fd_X10_15_9 (sdp_0 hD) rfl dX10_choose_59 ?_
              refine z_iload_n K dX10_choose_62 rfl rfl ?_
              refine j_ild K (sdp_2 hD) (by omega) (by omega) dX10_choose_63 ?_
              show zW X _ _ 0 0 _ _ (Value.int (iI (gx j)) :: _)
              refine z_callV K (gt_jop ⟨by omega, by omega⟩ (by omega) ⟨by omega, by omega⟩ (by omega)) cV_X10_35_J2 (sH_jbL ⟨by omega, by omega⟩ (by omega)) rfl rfl rfl (by omega) (by omega) (by omega) (Nat.le_of_ble_eq_true rfl) dX10_choose_64 zrX (zrK ?_)
              rw [hk0']
              refine z_castS K (sH_op ⟨by omega, by omega⟩ (by omega)) rfl q1164 dX10_choose_67 ?_
              refine z_astore K dX10_choose_70 rfl (by decide) rfl ?_
              refine z_aload_n K dX10_choose_72 rfl rfl rfl ?_
              refine z_aload K dX10_choose_73 rfl rfl ?_
              refine z_callV K (hst) cV_X10_109_X10 (sdp_0 hD) rfl rfl rfl (by omega) (by omega) (by omega) (Nat.le_of_ble_eq_true rfl) dX10_choose_75 zrX (zrK ?_)
              refine z_istore K dX10_choose_78 (by decide) rfl ?_
              refine z_aload_n K dX10_choose_80 rfl rfl rfl ?_
              refine z_ifnull K dX10_choose_81 ?_
              refine z_iload K dX10_choose_84 rfl ?_
              refine z_iload_n K dX10_choose_86 rfl rfl ?_
              refine j_icmp_gt (tgt := 119) K dX10_choose_87 rfl (by omega) (by omega) (fun c_87 => ?_) (fun c_87 => ?_)
              · refine j_iinc K dX10_choose_119 rfl (by decide) rfl ?_
                refine z_goto (tgt := 6) K dX10_choose_122 rfl ?_
                first | exact yes (by omega) _ ⟨rfl, rfl, rfl, rfl, trivial⟩ | exact no (by omega) _ ⟨rfl, rfl, rfl, rfl, trivial⟩
              · refine z_iload K dX10_choose_90 rfl ?_
                refine z_iload_n K dX10_choose_92 rfl rfl ?_
                refine j_icmp_ne (tgt := 113) K dX10_choose_93 rfl (by omega) (by omega) (fun c_93 => ?_) (fun c_93 => ?_)
                · refine z_aload K dX10_choose_113 rfl rfl ?_
                  refine z_astore_n K dX10_choose_115 rfl rfl (by decide) rfl ?_
                  refine z_iload K dX10_choose_116 rfl ?_
                  refine z_istore_n K dX10_choose_118 rfl (by decide) rfl ?_
                  refine j_iinc K dX10_choose_119 rfl (by decide) rfl ?_
                  refine z_goto (tgt := 6) K dX10_choose_122 rfl ?_
                  first | exact yes (by omega) _ ⟨rfl, rfl, rfl, rfl, trivial⟩ | exact no (by omega) _ ⟨rfl, rfl, rfl, rfl, trivial⟩
                · refine z_aload_n K dX10_choose_96 rfl rfl rfl ?_
                  refine z_aload K dX10_choose_97 rfl rfl ?_
                  refine z_callV K (hky) cV_X10_112_X10 (sdp_0 hD) rfl rfl rfl (by omega) (by omega) (by omega) (Nat.le_of_ble_eq_true rfl) dX10_choose_99 zrX (zrK ?_)
                  refine z_aload_n K dX10_choose_102 rfl rfl rfl ?_
                  refine z_aload_n K dX10_choose_103 rfl rfl rfl ?_
                  refine z_callV K (hkc) cV_X10_112_X10 (sdp_0 hD) rfl rfl rfl (by omega) (by omega) (by omega) (Nat.le_of_ble_eq_true rfl) dX10_choose_104 zrX (zrK ?_)
                  refine j_icmp_lt (tgt := 113) K dX10_choose_107 rfl (by omega) (by omega) (fun c_107 => ?_) (fun c_107 => ?_)
                  · refine z_aload K dX10_choose_113 rfl rfl ?_
                    refine z_astore_n K dX10_choose_115 rfl rfl (by decide) rfl ?_
                    refine z_iload K dX10_choose_116 rfl ?_
                    refine z_istore_n K dX10_choose_118 rfl (by decide) rfl ?_
                    refine j_iinc K dX10_choose_119 rfl (by decide) rfl ?_
                    refine z_goto (tgt := 6) K dX10_choose_122 rfl ?_
                    first | exact yes (by omega) _ ⟨rfl, rfl, rfl, rfl, trivial⟩ | exact no (by omega) _ ⟨rfl, rfl, rfl, rfl, trivial⟩
                  · refine z_goto (tgt := 119) K dX10_choose_110 rfl ?_
                    refine j_iinc K dX10_choose_119 rfl (by decide) rfl ?_
                    refine z_goto (tgt := 6) K dX10_choose_122 rfl ?_
                    first | exact yes (by omega) _ ⟨rfl, rfl, rfl, rfl, trivial⟩ | exact no (by omega) _ ⟨rfl, rfl, rfl, rfl, trivial⟩
            · exact absurd c_50 hend
  have go := loop (u 0 0).toNat 0 (by omega)
  have go : ∀ env, zsub env [(0, .ref D), (1, .null), (2, .int (iI 0)), (3, .int (iI 0))] → zW X (zRet (opV b (chs (u 0) gx fx rl ea (u 0 0).toNat).1) (sH b u (dp D b rl ea fx gx g))) (sH b u (dp D b rl ea fx gx g)) 0 0 6 env [] := by
    have e : opV b (chs (u 0) gx fx rl ea 0).1 = .null := opV_n
    rw [e] at go
    exact go
  clear loop
  refine z_null K dX10_choose_0 ?_
  refine z_astore_n K dX10_choose_1 rfl rfl (by decide) rfl ?_
  refine j_iconst K dX10_choose_2 ?_
  refine z_istore_n K dX10_choose_3 rfl (by decide) rfl ?_
  refine j_iconst K dX10_choose_4 ?_
  refine z_istore_n K dX10_choose_5 rfl (by decide) rfl ?_
  exact go _ ⟨rfl, rfl, rfl, rfl, trivial⟩
end XCs

