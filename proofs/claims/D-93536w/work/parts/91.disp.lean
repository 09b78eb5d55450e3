/-! ===== the component: dispatching ===== -/
/-- a dispatcher at the names D .. D + 2 -/
def dp (D b : Nat) (rl ea : Int) (fx gx : Nat → Int) (g : zH) : zH := zup (zup (zup g (D + 1) (aI 20 fx)) (D + 2) (aI 5 gx)) D (.inr (9, [.ref b, .int (iI rl), .int (iI ea), .ref (D + 1), .ref (D + 2)]))
section XDi
variable {b D : Nat} {u : tW} {g : zH} {rl ea : Int} {fx gx : Nat → Int}
theorem dp_0 : dp D b rl ea fx gx g D = some (.inr (9, [.ref b, .int (iI rl), .int (iI ea), .ref (D + 1), .ref (D + 2)])) := zup_at _ _ _
theorem dp_1 : dp D b rl ea fx gx g (D + 1) = some (aI 20 fx) := (zup_ne (by omega)).trans ((zup_ne (by omega)).trans (zup_at _ _ _))
theorem dp_2 : dp D b rl ea fx gx g (D + 2) = some (aI 5 gx) := (zup_ne (by omega)).trans (zup_at _ _ _)
theorem dp_o {m : Nat} (h : m < D ∨ D + 3 ≤ m) : dp D b rl ea fx gx g m = g m := (zup_ne (by omega)).trans ((zup_ne (by omega)).trans (zup_ne (by omega)))
theorem dp_ext : zExt D g (dp D b rl ea fx gx g) := fun m hm => dp_o (by omega)
theorem dp_top (h : zTop g D) : zTop (dp D b rl ea fx gx g) (D + 3) := fun m hm => (dp_o (by omega)).trans (h m (by omega))
theorem dp_st {fx' : Nat → Int} : zup (dp D b rl ea fx gx g) (D + 1) (aI 20 fx') = dp D b rl ea fx' gx g := by
  funext m
  unfold dp
  by_cases e : m = D + 1
  · subst e; rw [zup_at, zup_ne (by omega), zup_ne (by omega), zup_at]
  · rw [zup_ne e]
    by_cases e2 : m = D
    · subst e2; rw [zup_at, zup_at]
    · rw [zup_ne e2, zup_ne e2]
      by_cases e3 : m = D + 2
      · subst e3; rw [zup_at, zup_at]
      · rw [zup_ne e3, zup_ne e3, zup_ne e, zup_ne e]
theorem dp_nx {gx' : Nat → Int} : zup (dp D b rl ea fx gx g) (D + 2) (aI 5 gx') = dp D b rl ea fx gx' g := by
  funext m
  unfold dp
  by_cases e : m = D + 2
  · subst e; rw [zup_at, zup_ne (by omega), zup_at]
  · rw [zup_ne e]
    by_cases e2 : m = D
    · subst e2; rw [zup_at, zup_at]
    · rw [zup_ne e2, zup_ne e2, zup_ne e, zup_ne e]
theorem sdp_0 (hD : b + 72 ≤ D) : sH b u (dp D b rl ea fx gx g) D = some (.inr (9, [.ref b, .int (iI rl), .int (iI ea), .ref (D + 1), .ref (D + 2)])) := (sH_out (by omega)).trans dp_0
theorem sdp_1 (hD : b + 72 ≤ D) : sH b u (dp D b rl ea fx gx g) (D + 1) = some (aI 20 fx) := (sH_out (by omega)).trans dp_1
theorem sdp_2 (hD : b + 72 ≤ D) : sH b u (dp D b rl ea fx gx g) (D + 2) = some (aI 5 gx) := (sH_out (by omega)).trans dp_2
theorem sdp_st (hD : b + 72 ≤ D) {fx' : Nat → Int} : zup (sH b u (dp D b rl ea fx gx g)) (D + 1) (aI 20 fx') = sH b u (dp D b rl ea fx' gx g) := by rw [sH_upo (by omega), dp_st]
theorem sdp_nx (hD : b + 72 ≤ D) {gx' : Nat → Int} : zup (sH b u (dp D b rl ea fx gx g)) (D + 2) (aI 5 gx') = sH b u (dp D b rl ea fx gx' g) := by rw [sH_upo (by omega), dp_nx]
theorem x10_endOf {k : Int} (hD : b + 72 ≤ D) (hA : WfA (u 0)) (hk : 0 ≤ k ∧ k < u 0 1) (hf : -5000 ≤ fx k.toNat ∧ fx k.toNat ≤ 50000) : zMet yX10_endOf (ws_ yX10_endOf cX10_endOf 2 (some .int)) 4 [.ref D, .int (iI k)] (sH b u (dp D b rl ea fx gx g)) (zRet (.int (iI (fx k.toNat + sDu (u 0) k))) (sH b u (dp D b rl ea fx gx g))) 0 0 := by
  have h20 := hA.2.1.1
  have hd := (hA.2.1.2 k hk.1 hk.2).2.2.1
  refine zMet.of (by decide) (Nat.le_of_ble_eq_true rfl) fun X K => ?_
  (try dsimp only [sRel, sDue, sWt, sLen, sSeq, sJb, sMc, sDu, sFa, sIx, sSu, sBn, sBf, sBl, sOn, sOr] at *)
  refine z_aload_n K dX10_endOf_0 rfl rfl rfl ?_
  refine z_get K fd_X10_9_9 (sdp_0 hD) rfl dX10_endOf_1 ?_
  refine z_iload_n K dX10_endOf_4 rfl rfl ?_
  refine j_ild K (sdp_1 hD) (by omega) (by omega) dX10_endOf_5 ?_
  refine z_aload_n K dX10_endOf_6 rfl rfl rfl ?_
  refine z_get K fd_X10_18_9 (sdp_0 hD) rfl dX10_endOf_7 ?_
  refine z_get K fd_X10_52_2 (sH_shop) rfl dX10_endOf_10 ?_
  refine z_iload_n K dX10_endOf_13 rfl rfl ?_
  refine z_callV K (gt_ops ⟨by omega, by omega⟩ (by omega)) cV_X10_35_J2 (sH_ops) rfl rfl rfl (by omega) (by omega) (by omega) (Nat.le_of_ble_eq_true rfl) dX10_endOf_14 zrX (zrK ?_)
  refine z_castS K (sH_op ⟨by omega, by omega⟩ (by omega)) rfl q1164 dX10_endOf_17 ?_
  refine z_get K fd_X10_60_5 (sH_op ⟨by omega, by omega⟩ (by omega)) rfl dX10_endOf_20 ?_
  refine j_iadd K dX10_endOf_23 ?_
  exact z_iret K (by omega) (by omega) (⟨rfl, rfl⟩) dX10_endOf_24
theorem x10_startOf {k : Int} (hD : b + 72 ≤ D) (hA : WfA (u 0)) (hB : BkOk b u g) (hTp : zTop g D) (hk : 0 ≤ k ∧ k < u 0 1) (hea : 0 ≤ ea ∧ ea ≤ 3000) (hbe : sBef (u 0) k ≠ -1 → 0 ≤ fx (sBef (u 0) k).toNat ∧ fx (sBef (u 0) k).toNat ≤ 5000) (hon : 0 ≤ sOn (u 0) (sMc (u 0) k) ∧ sOn (u 0) (sMc (u 0) k) ≤ 5) (hla : 0 < sOn (u 0) (sMc (u 0) k) → (0 ≤ sOr (u 0) (sMc (u 0) k) (sOn (u 0) (sMc (u 0) k) - 1) ∧ sOr (u 0) (sMc (u 0) k) (sOn (u 0) (sMc (u 0) k) - 1) < u 0 1) ∧ 0 ≤ fx (sOr (u 0) (sMc (u 0) k) (sOn (u 0) (sMc (u 0) k) - 1)).toNat ∧ fx (sOr (u 0) (sMc (u 0) k) (sOn (u 0) (sMc (u 0) k) - 1)).toNat ≤ 5000) :
    zMet yX10_startOf (ws_ yX10_startOf cX10_startOf 6 (some .int)) 5 [.ref D, .ref (b + 52 + k.toNat)] (sH b u (dp D b rl ea fx gx g)) (zRet (.int (iI (cst (u 0) fx ea k))) (sH b u (dp D b rl ea fx gx g))) 0 0 := by
  have h20 := hA.2.1.1
  have h05 := hA.1.1
  obtain ⟨a1, a2, a3, a4, a5, a6⟩ := hA.2.1.2 k hk.1 hk.2
  have hrel := (hA.1.2 _ a1.1 a1.2).1
  have hbf := sBef_ok hA hk.1 hk.2
  have hB' : BkOk b u (dp D b rl ea fx gx g) := hB.ext dp_ext hTp
  have hear := x2_earlier (b := b) (u := u) (g := dp D b rl ea fx gx g) hA hk
  refine zMet.of (by decide) (Nat.le_of_ble_eq_true rfl) fun X K => ?_
  -- behind the order
  have c129 : ∀ t, cT (u 0) fx ea k = t → (0 ≤ t ∧ t ≤ 50000) → ∀ env, zsub env [(0, .ref D), (1, .ref (b + 52 + k.toNat)), (2, .int (iI t))] → zW X (zRet (.int (iI (cst (u 0) fx ea k))) (sH b u (dp D b rl ea fx gx g))) (sH b u (dp D b rl ea fx gx g)) 0 0 129 env [] := by
    intro t ht htr env he
    refine zW.cut he ?_
    have hun := x2_unhindered (b := b) (u := u) (g := dp D b rl ea fx gx g) (f := t) hA hB' hk htr
    have e : sFree (u 0) (u 0 (62 + k).toNat) t (u 0 (82 + k).toNat) = cst (u 0) fx ea k := by unfold cst; rw [ht]
    rw [e] at hun
    refine z_aload_n K dX10_startOf_129 rfl rfl rfl ?_
    refine z_get K fd_X10_18_9 (sdp_0 hD) rfl dX10_startOf_130 ?_
    refine z_aload_n K dX10_startOf_133 rfl rfl rfl ?_
    refine z_iload_n K dX10_startOf_134 rfl rfl ?_
    refine z_cVN K (hun) cV_X10_93_X2 (sH_shop) rfl rfl rfl (by omega) (by omega) (by omega) (Nat.le_of_ble_eq_true rfl) dX10_startOf_135 zrX (zrK ?_)
    exact z_iret K (by omega) (by omega) (⟨rfl, rfl⟩) dX10_startOf_138
  have c52 : ∀ t, (if sBef (u 0) k = -1 then max ea (sRel (u 0) (sJb (u 0) k)) else max (max ea (sRel (u 0) (sJb (u 0) k))) (fx (sBef (u 0) k).toNat + sDu (u 0) (sBef (u 0) k))) = t → (0 ≤ t ∧ t ≤ 20000) → ∀ env, zsub env [(0, .ref D), (1, .ref (b + 52 + k.toNat)), (2, .int (iI t))] → zW X (zRet (.int (iI (cst (u 0) fx ea k))) (sH b u (dp D b rl ea fx gx g))) (sH b u (dp D b rl ea fx gx g)) 0 0 52 env [] := by
    intro t ht htr env he
    refine zW.cut he ?_
    by_cases hz : 0 < sOn (u 0) (sMc (u 0) k)
    · obtain ⟨l1, l2⟩ := hla hz
      have hd := (hA.2.1.2 _ l1.1 l1.2).2.2.1
      have hsu := (hA.su l1 hk).2.2
      have kk := c129 (max t (fx (sOr (u 0) (sMc (u 0) k) (sOn (u 0) (sMc (u 0) k) - 1)).toNat + sDu (u 0) (sOr (u 0) (sMc (u 0) k) (sOn (u 0) (sMc (u 0) k) - 1)) + sSu (u 0) (sOr (u 0) (sMc (u 0) k) (sOn (u 0) (sMc (u 0) k) - 1)) k)) (by unfold cT; rw [ht]; exact if_pos hz) (by omega)
      have hen := x10_endOf (b := b) (u := u) (g := g) (D := D) (rl := rl) (ea := ea) (fx := fx) (gx := gx) hD hA l1 (by omega)
      have hst := x2_setup (b := b) (u := u) (g := dp D b rl ea fx gx g) hA l1 hk
      clear c129
      (try dsimp only [sRel, sDue, sWt, sLen, sSeq, sJb, sMc, sDu, sFa, sIx, sSu, sBn, sBf, sBl, sOn, sOr] at *)
      refine z_aload_n K dX10_startOf_52 rfl rfl rfl ?_
      refine z_get K fd_X10_18_9 (sdp_0 hD) rfl dX10_startOf_53 ?_
      refine z_get K fd_X10_29_2 (sH_shop) rfl dX10_startOf_56 ?_
      refine z_aload_n K dX10_startOf_59 rfl rfl rfl ?_
      refine z_get K fd_X10_86_5 (sH_op ⟨by omega, by omega⟩ (by omega)) rfl dX10_startOf_60 ?_
      refine z_callV K (gt_ord ⟨by omega, by omega⟩) cV_X10_35_J2 (sH_ords) rfl rfl rfl (by omega) (by omega) (by omega) (Nat.le_of_ble_eq_true rfl) dX10_startOf_63 zrX (zrK ?_)
      refine z_castS K (sH_ord ⟨by omega, by omega⟩) rfl q1163 dX10_startOf_66 ?_
      refine z_astore K dX10_startOf_69 rfl (by decide) rfl ?_
      refine z_aload K dX10_startOf_71 rfl rfl ?_
      refine z_get K fd_X10_43_3 (sH_ord ⟨by omega, by omega⟩) rfl dX10_startOf_73 ?_
      refine j_if_le (tgt := 129) K dX10_startOf_76 rfl (by omega) (fun c_76 => ?_) (fun c_76 => ?_)
      · exact absurd c_76 (by omega)
      · refine z_aload K dX10_startOf_79 rfl rfl ?_
        refine z_get K fd_X10_49_3 (sH_ord ⟨by omega, by omega⟩) rfl dX10_startOf_81 ?_
        refine z_aload K dX10_startOf_84 rfl rfl ?_
        refine z_get K fd_X10_43_3 (sH_ord ⟨by omega, by omega⟩) rfl dX10_startOf_86 ?_
        refine j_iconst K dX10_startOf_89 ?_
        refine j_isub K dX10_startOf_90 ?_
        refine s_ldrow K (⟨by omega, by omega⟩) (by omega) (by omega) dX10_startOf_91 ?_
        rw [show 183 + 5 * u 0 (62 + k).toNat + (u 0 (179 + u 0 (62 + k).toNat).toNat - 1) = 183 + 5 * u 0 (62 + k).toNat + (u 0 (179 + u 0 (62 + k).toNat).toNat - 1) from rfl]
        refine z_istore K dX10_startOf_92 (by decide) rfl ?_
        refine z_iload_n K dX10_startOf_94 rfl rfl ?_
        refine z_aload_n K dX10_startOf_95 rfl rfl rfl ?_
        refine z_iload K dX10_startOf_96 rfl ?_
        refine z_callV K (hen) cV_X10_82_X10 (sdp_0 hD) rfl rfl rfl (by omega) (by omega) (by omega) (Nat.le_of_ble_eq_true rfl) dX10_startOf_98 zrX (zrK ?_)
        refine z_aload_n K dX10_startOf_101 rfl rfl rfl ?_
        refine z_get K fd_X10_18_9 (sdp_0 hD) rfl dX10_startOf_102 ?_
        refine z_aload_n K dX10_startOf_105 rfl rfl rfl ?_
        refine z_get K fd_X10_18_9 (sdp_0 hD) rfl dX10_startOf_106 ?_
        refine z_get K fd_X10_52_2 (sH_shop) rfl dX10_startOf_109 ?_
        refine z_iload K dX10_startOf_112 rfl ?_
        refine z_callV K (gt_ops ⟨by omega, by omega⟩ (by omega)) cV_X10_35_J2 (sH_ops) rfl rfl rfl (by omega) (by omega) (by omega) (Nat.le_of_ble_eq_true rfl) dX10_startOf_114 zrX (zrK ?_)
        refine z_castS K (sH_op ⟨by omega, by omega⟩ (by omega)) rfl q1164 dX10_startOf_117 ?_
        refine z_aload_n K dX10_startOf_120 rfl rfl rfl ?_
        refine z_callV K (hst) cV_X10_89_X2 (sH_shop) rfl rfl rfl (by omega) (by omega) (by omega) (Nat.le_of_ble_eq_true rfl) dX10_startOf_121 zrX (zrK ?_)
        refine j_iadd K dX10_startOf_124 ?_
        refine z_callS K ((s_max (by omega) (by omega)).r) cS_X10_72 rfl rfl (by omega) (by omega) (by omega) (Nat.le_of_ble_eq_true rfl) dX10_startOf_125 zrX (zrK ?_)
        refine z_istore_n K dX10_startOf_128 rfl (by decide) rfl ?_
        exact kk _ ⟨rfl, rfl, rfl, trivial⟩
    · have kk := c129 t (by unfold cT; rw [ht]; exact if_neg hz) (by omega)
      clear c129
      (try dsimp only [sRel, sDue, sWt, sLen, sSeq, sJb, sMc, sDu, sFa, sIx, sSu, sBn, sBf, sBl, sOn, sOr] at *)
      refine z_aload_n K dX10_startOf_52 rfl rfl rfl ?_
      refine z_get K fd_X10_18_9 (sdp_0 hD) rfl dX10_startOf_53 ?_
      refine z_get K fd_X10_29_2 (sH_shop) rfl dX10_startOf_56 ?_
      refine z_aload_n K dX10_startOf_59 rfl rfl rfl ?_
      refine z_get K fd_X10_86_5 (sH_op ⟨by omega, by omega⟩ (by omega)) rfl dX10_startOf_60 ?_
      refine z_callV K (gt_ord ⟨by omega, by omega⟩) cV_X10_35_J2 (sH_ords) rfl rfl rfl (by omega) (by omega) (by omega) (Nat.le_of_ble_eq_true rfl) dX10_startOf_63 zrX (zrK ?_)
      refine z_castS K (sH_ord ⟨by omega, by omega⟩) rfl q1163 dX10_startOf_66 ?_
      refine z_astore K dX10_startOf_69 rfl (by decide) rfl ?_
      refine z_aload K dX10_startOf_71 rfl rfl ?_
      refine z_get K fd_X10_43_3 (sH_ord ⟨by omega, by omega⟩) rfl dX10_startOf_73 ?_
      refine j_if_le (tgt := 129) K dX10_startOf_76 rfl (by omega) (fun c_76 => ?_) (fun c_76 => ?_)
      · exact kk _ ⟨rfl, rfl, rfl, trivial⟩
      · exact absurd c_76 (by omega)
  by_cases hz : sBef (u 0) k = -1
  · have kk := c52 (max ea (sRel (u 0) (sJb (u 0) k))) (if_pos hz) (by omega)
    clear c52 c129
    rw [hz] at hear
    (try dsimp only [sRel, sDue, sWt, sLen, sSeq, sJb, sMc, sDu, sFa, sIx, sSu, sBn, sBf, sBl, sOn, sOr] at *)
    refine z_aload_n K dX10_startOf_0 rfl rfl rfl ?_
    refine z_get K fd_X10_26_9 (sdp_0 hD) rfl dX10_startOf_1 ?_
    refine z_aload_n K dX10_startOf_4 rfl rfl rfl ?_
    refine z_get K fd_X10_18_9 (sdp_0 hD) rfl dX10_startOf_5 ?_
    refine z_get K fd_X10_63_2 (sH_shop) rfl dX10_startOf_8 ?_
    refine z_aload_n K dX10_startOf_11 rfl rfl rfl ?_
    refine z_get K fd_X10_57_5 (sH_op ⟨by omega, by omega⟩ (by omega)) rfl dX10_startOf_12 ?_
    refine z_callV K (gt_jobs ⟨by omega, by omega⟩ (by omega)) cV_X10_35_J2 (sH_jobs) rfl rfl rfl (by omega) (by omega) (by omega) (Nat.le_of_ble_eq_true rfl) dX10_startOf_15 zrX (zrK ?_)
    refine z_castS K (sH_job ⟨by omega, by omega⟩ (by omega)) rfl q1170 dX10_startOf_18 ?_
    refine z_callV K (x5_release ⟨by omega, by omega⟩ (by omega)) cV_X10_68_X5 (sH_job ⟨by omega, by omega⟩ (by omega)) rfl rfl rfl (by omega) (by omega) (by omega) (Nat.le_of_ble_eq_true rfl) dX10_startOf_21 zrX (zrK ?_)
    refine z_callS K ((s_max (by omega) (by omega)).r) cS_X10_72 rfl rfl (by omega) (by omega) (by omega) (Nat.le_of_ble_eq_true rfl) dX10_startOf_24 zrX (zrK ?_)
    refine z_istore_n K dX10_startOf_27 rfl (by decide) rfl ?_
    refine z_aload_n K dX10_startOf_28 rfl rfl rfl ?_
    refine z_get K fd_X10_18_9 (sdp_0 hD) rfl dX10_startOf_29 ?_
    refine z_aload_n K dX10_startOf_32 rfl rfl rfl ?_
    refine z_cVN K (hear) cV_X10_78_X2 (sH_shop) rfl rfl rfl (by omega) (by omega) (by omega) (Nat.le_of_ble_eq_true rfl) dX10_startOf_33 zrX (zrK ?_)
    refine z_istore_n K dX10_startOf_36 rfl (by decide) rfl ?_
    refine z_iload_n K dX10_startOf_37 rfl rfl ?_
    refine j_iconst K dX10_startOf_38 ?_
    refine j_icmp_eq (tgt := 52) K dX10_startOf_39 rfl (by omega) (by omega) (fun c_39 => ?_) (fun c_39 => ?_)
    · exact kk _ ⟨rfl, rfl, rfl, trivial⟩
    · exact absurd rfl c_39
  · have hb0 := hbe hz
    have hbr : 0 ≤ sBef (u 0) k ∧ sBef (u 0) k < u 0 1 := by omega
    have hd := (hA.2.1.2 _ hbr.1 hbr.2).2.2.1
    have kk := c52 (max (max ea (sRel (u 0) (sJb (u 0) k))) (fx (sBef (u 0) k).toNat + sDu (u 0) (sBef (u 0) k))) (if_neg hz) (by omega)
    have hen := x10_endOf (b := b) (u := u) (g := g) (D := D) (rl := rl) (ea := ea) (fx := fx) (gx := gx) hD hA hbr (by omega)
    clear c52 c129
    (try dsimp only [sRel, sDue, sWt, sLen, sSeq, sJb, sMc, sDu, sFa, sIx, sSu, sBn, sBf, sBl, sOn, sOr] at *)
    refine z_aload_n K dX10_startOf_0 rfl rfl rfl ?_
    refine z_get K fd_X10_26_9 (sdp_0 hD) rfl dX10_startOf_1 ?_
    refine z_aload_n K dX10_startOf_4 rfl rfl rfl ?_
    refine z_get K fd_X10_18_9 (sdp_0 hD) rfl dX10_startOf_5 ?_
    refine z_get K fd_X10_63_2 (sH_shop) rfl dX10_startOf_8 ?_
    refine z_aload_n K dX10_startOf_11 rfl rfl rfl ?_
    refine z_get K fd_X10_57_5 (sH_op ⟨by omega, by omega⟩ (by omega)) rfl dX10_startOf_12 ?_
    refine z_callV K (gt_jobs ⟨by omega, by omega⟩ (by omega)) cV_X10_35_J2 (sH_jobs) rfl rfl rfl (by omega) (by omega) (by omega) (Nat.le_of_ble_eq_true rfl) dX10_startOf_15 zrX (zrK ?_)
    refine z_castS K (sH_job ⟨by omega, by omega⟩ (by omega)) rfl q1170 dX10_startOf_18 ?_
    refine z_callV K (x5_release ⟨by omega, by omega⟩ (by omega)) cV_X10_68_X5 (sH_job ⟨by omega, by omega⟩ (by omega)) rfl rfl rfl (by omega) (by omega) (by omega) (Nat.le_of_ble_eq_true rfl) dX10_startOf_21 zrX (zrK ?_)
    refine z_callS K ((s_max (by omega) (by omega)).r) cS_X10_72 rfl rfl (by omega) (by omega) (by omega) (Nat.le_of_ble_eq_true rfl) dX10_startOf_24 zrX (zrK ?_)
    refine z_istore_n K dX10_startOf_27 rfl (by decide) rfl ?_
    refine z_aload_n K dX10_startOf_28 rfl rfl rfl ?_
    refine z_get K fd_X10_18_9 (sdp_0 hD) rfl dX10_startOf_29 ?_
    refine z_aload_n K dX10_startOf_32 rfl rfl rfl ?_
    refine z_cVN K (hear) cV_X10_78_X2 (sH_shop) rfl rfl rfl (by omega) (by omega) (by omega) (Nat.le_of_ble_eq_true rfl) dX10_startOf_33 zrX (zrK ?_)
    refine z_istore_n K dX10_startOf_36 rfl (by decide) rfl ?_
    refine z_iload_n K dX10_startOf_37 rfl rfl ?_
    refine j_iconst K dX10_startOf_38 ?_
    refine j_icmp_eq (tgt := 52) K dX10_startOf_39 rfl (by omega) (by omega) (fun c_39 => ?_) (fun c_39 => ?_)
    · exact absurd c_39 hz
    · refine z_iload_n K dX10_startOf_42 rfl rfl ?_
      refine z_aload_n K dX10_startOf_43 rfl rfl rfl ?_
      refine z_iload_n K dX10_startOf_44 rfl rfl ?_
      refine z_callV K (hen) cV_X10_82_X10 (sdp_0 hD) rfl rfl rfl (by omega) (by omega) (by omega) (Nat.le_of_ble_eq_true rfl) dX10_startOf_45 zrX (zrK ?_)
      refine z_callS K ((s_max (by omega) (by omega)).r) cS_X10_72 rfl rfl (by omega) (by omega) (by omega) (Nat.le_of_ble_eq_true rfl) dX10_startOf_48 zrX (zrK ?_)
      refine z_istore_n K dX10_startOf_51 rfl (by decide) rfl ?_
      exact kk _ ⟨rfl, rfl, rfl, trivial⟩
end XDi

