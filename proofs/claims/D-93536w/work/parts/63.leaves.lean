/-! ===== the component: breakdowns, jobs, what the shop asks of them ===== -/
theorem x7_hinders {h : zH} {a : Nat} {f l t e : Int} (ha : h a = some (.inr (6, [.int (iI f), .int (iI l)]))) (hf : 0 ≤ f ∧ f ≤ 400) (hl : 1 ≤ l ∧ l ≤ 60) (ht : 0 ≤ t ∧ t ≤ 200000) (he : 0 ≤ e ∧ e ≤ 1000) : zMet yX7_hinders (ws_ yX7_hinders cX7_hinders 3 (some .boolean)) 1 [.ref a, .int (iI t), .int (iI e)] h (zRet (.int (iI (bI (f < t + e ∧ t < f + l)))) h) 0 0 := by
  refine zMet.of (by decide) (Nat.le_of_ble_eq_true rfl) fun X K => ?_
  refine z_iload_n K dX7_hinders_0 rfl rfl ?_
  refine z_aload_n K dX7_hinders_1 rfl rfl rfl ?_
  refine z_get K fd_X7_7_6 (ha) rfl dX7_hinders_2 ?_
  refine z_aload_n K dX7_hinders_5 rfl rfl rfl ?_
  refine z_get K fd_X7_13_6 (ha) rfl dX7_hinders_6 ?_
  refine j_iadd K dX7_hinders_9 ?_
  refine j_icmp_ge (tgt := 27) K dX7_hinders_10 rfl (by omega) (by omega) (fun c_10 => ?_) (fun c_10 => ?_)
  · refine j_iconst K dX7_hinders_27 ?_
    exact z_zret K (iI_b (by omega)) (by omega) (by omega) (⟨by first | rw [show bI (f < t + e ∧ t < f + l) = 1 from if_pos (by omega)] | rw [show bI (f < t + e ∧ t < f + l) = 0 from if_neg (by omega)], rfl⟩) dX7_hinders_28
  · refine z_aload_n K dX7_hinders_13 rfl rfl rfl ?_
    refine z_get K fd_X7_7_6 (ha) rfl dX7_hinders_14 ?_
    refine z_iload_n K dX7_hinders_17 rfl rfl ?_
    refine z_iload_n K dX7_hinders_18 rfl rfl ?_
    refine j_iadd K dX7_hinders_19 ?_
    refine j_icmp_ge (tgt := 27) K dX7_hinders_20 rfl (by omega) (by omega) (fun c_20 => ?_) (fun c_20 => ?_)
    · refine j_iconst K dX7_hinders_27 ?_
      exact z_zret K (iI_b (by omega)) (by omega) (by omega) (⟨by first | rw [show bI (f < t + e ∧ t < f + l) = 1 from if_pos (by omega)] | rw [show bI (f < t + e ∧ t < f + l) = 0 from if_neg (by omega)], rfl⟩) dX7_hinders_28
    · refine j_iconst K dX7_hinders_23 ?_
      refine z_goto (tgt := 28) K dX7_hinders_24 rfl ?_
      exact z_zret K (iI_b (by omega)) (by omega) (by omega) (⟨by first | rw [show bI (f < t + e ∧ t < f + l) = 1 from if_pos (by omega)] | rw [show bI (f < t + e ∧ t < f + l) = 0 from if_neg (by omega)], rfl⟩) dX7_hinders_28
section XLv
variable {b : Nat} {u : tW} {g : zH}
theorem x5_release {j : Int} (hj : 0 ≤ j ∧ j < u 0 0) (h5 : u 0 0 ≤ 5) : zMet yX5_release (ws_ yX5_release cX5_release 1 (some .int)) 1 [.ref (b + 32 + j.toNat)] (sH b u g) (zRet (.int (iI (u 0 (2 + j).toNat))) (sH b u g)) 0 0 := by
  refine zMet.of (by decide) (Nat.le_of_ble_eq_true rfl) fun X K => ?_
  refine z_aload_n K dX5_release_0 rfl rfl rfl ?_
  refine z_get K fd_X5_7_4 (sH_job ⟨by omega, by omega⟩ (by omega)) rfl dX5_release_1 ?_
  refine j_iconst K dX5_release_4 ?_
  refine s_ldval K (⟨⟨by omega, by omega⟩, by omega⟩) (by omega) (by omega) dX5_release_5 ?_
  exact z_iret K (by omega) (by omega) (⟨by rw [show (2 + 5 * 0 + j) = 2 + j by omega], rfl⟩) dX5_release_6
theorem x5_due {j : Int} (hj : 0 ≤ j ∧ j < u 0 0) (h5 : u 0 0 ≤ 5) : zMet yX5_due (ws_ yX5_due cX5_due 1 (some .int)) 1 [.ref (b + 32 + j.toNat)] (sH b u g) (zRet (.int (iI (u 0 (7 + j).toNat))) (sH b u g)) 0 0 := by
  refine zMet.of (by decide) (Nat.le_of_ble_eq_true rfl) fun X K => ?_
  refine z_aload_n K dX5_due_0 rfl rfl rfl ?_
  refine z_get K fd_X5_7_4 (sH_job ⟨by omega, by omega⟩ (by omega)) rfl dX5_due_1 ?_
  refine j_iconst K dX5_due_4 ?_
  refine s_ldval K (⟨⟨by omega, by omega⟩, by omega⟩) (by omega) (by omega) dX5_due_5 ?_
  exact z_iret K (by omega) (by omega) (⟨by rw [show (2 + 5 * 1 + j) = 7 + j by omega], rfl⟩) dX5_due_6
theorem x5_weight {j : Int} (hj : 0 ≤ j ∧ j < u 0 0) (h5 : u 0 0 ≤ 5) : zMet yX5_weight (ws_ yX5_weight cX5_weight 1 (some .int)) 1 [.ref (b + 32 + j.toNat)] (sH b u g) (zRet (.int (iI (u 0 (12 + j).toNat))) (sH b u g)) 0 0 := by
  refine zMet.of (by decide) (Nat.le_of_ble_eq_true rfl) fun X K => ?_
  refine z_aload_n K dX5_weight_0 rfl rfl rfl ?_
  refine z_get K fd_X5_7_4 (sH_job ⟨by omega, by omega⟩ (by omega)) rfl dX5_weight_1 ?_
  refine j_iconst K dX5_weight_4 ?_
  refine s_ldval K (⟨⟨by omega, by omega⟩, by omega⟩) (by omega) (by omega) dX5_weight_5 ?_
  exact z_iret K (by omega) (by omega) (⟨by rw [show (2 + 5 * 2 + j) = 12 + j by omega], rfl⟩) dX5_weight_6
theorem x2_setup {k l : Int} (hA : WfA (u 0)) (hk : 0 ≤ k ∧ k < u 0 1) (hl : 0 ≤ l ∧ l < u 0 1) : zMet yX2_setup (ws_ yX2_setup cX2_setup 3 (some .int)) 1 [.ref b, .ref (b + 52 + k.toNat), .ref (b + 52 + l.toNat)] (sH b u g) (zRet (.int (iI (sSu (u 0) k l))) (sH b u g)) 0 0 := by
  have h20 := hA.2.1.1
  obtain ⟨-, -, -, a1, -, -⟩ := hA.2.1.2 k hk.1 hk.2
  obtain ⟨-, -, -, a2, -, -⟩ := hA.2.1.2 l hl.1 hl.2
  refine zMet.of (by decide) (Nat.le_of_ble_eq_true rfl) fun X K => ?_
  (try dsimp only [sRel, sDue, sWt, sLen, sSeq, sJb, sMc, sDu, sFa, sIx, sSu, sBn, sBf, sBl, sOn, sOr] at *)
  refine z_aload_n K dX2_setup_0 rfl rfl rfl ?_
  refine z_get K fd_X2_21_2 (sH_shop) rfl dX2_setup_1 ?_
  refine j_iconst K dX2_setup_4 ?_
  refine z_aload_n K dX2_setup_5 rfl rfl rfl ?_
  refine z_get K fd_X2_88_5 (sH_op ⟨by omega, by omega⟩ (by omega)) rfl dX2_setup_6 ?_
  refine j_imul K dX2_setup_9 ?_
  refine z_aload_n K dX2_setup_10 rfl rfl rfl ?_
  refine z_get K fd_X2_88_5 (sH_op ⟨by omega, by omega⟩ (by omega)) rfl dX2_setup_11 ?_
  refine j_iadd K dX2_setup_14 ?_
  refine s_ldset K (trivial) (by omega) (by omega) dX2_setup_15 ?_
  exact z_iret K (by omega) (by omega) (⟨by rw [show 142 + (3 * u 0 (102 + k).toNat + u 0 (102 + l).toNat) = 142 + 3 * u 0 (102 + k).toNat + u 0 (102 + l).toNat by omega], rfl⟩) dX2_setup_16
theorem x2_earlier {k : Int} (hA : WfA (u 0)) (hk : 0 ≤ k ∧ k < u 0 1) : zMet yX2_earlier (ws_ yX2_earlier cX2_earlier 2 (some .int)) 4 [.ref b, .ref (b + 52 + k.toNat)] (sH b u g) (zRet (.int (iI (sBef (u 0) k))) (sH b u g)) 0 0 := by
  have h20 := hA.2.1.1
  have h05 := hA.1.1
  obtain ⟨a1, a2, a3, a4, a5, a6⟩ := hA.2.1.2 k hk.1 hk.2
  have hl := (hA.1.2 _ a1.1 a1.2).2.2.2
  have hb := sBef_ok hA hk.1 hk.2
  unfold sBef at *
  refine zMet.of (by decide) (Nat.le_of_ble_eq_true rfl) fun X K => ?_
  by_cases hz : sIx (u 0) k = 0
  · rw [if_pos hz]
    (try dsimp only [sRel, sDue, sWt, sLen, sSeq, sJb, sMc, sDu, sFa, sIx, sSu, sBn, sBf, sBl, sOn, sOr] at *)
    refine z_aload_n K dX2_earlier_0 rfl rfl rfl ?_
    refine z_get K fd_X2_140_5 (sH_op ⟨by omega, by omega⟩ (by omega)) rfl dX2_earlier_1 ?_
    refine j_if_ne (tgt := 11) K dX2_earlier_4 rfl (by omega) (fun c_4 => ?_) (fun c_4 => ?_)
    · exact absurd hz c_4
    · refine j_iconst K dX2_earlier_7 ?_
      refine z_goto (tgt := 43) K dX2_earlier_8 rfl ?_
      exact z_iret K (by omega) (by omega) (⟨rfl, rfl⟩) dX2_earlier_43
  · rw [if_neg hz] at hb ⊢
    have hs := (hA.2.2.1 (sJb (u 0) k) (sIx (u 0) k - 1) a1.1 a1.2 (by omega) (by omega)).1
    (try dsimp only [sRel, sDue, sWt, sLen, sSeq, sJb, sMc, sDu, sFa, sIx, sSu, sBn, sBf, sBl, sOn, sOr] at *)
    refine z_aload_n K dX2_earlier_0 rfl rfl rfl ?_
    refine z_get K fd_X2_140_5 (sH_op ⟨by omega, by omega⟩ (by omega)) rfl dX2_earlier_1 ?_
    refine j_if_ne (tgt := 11) K dX2_earlier_4 rfl (by omega) (fun c_4 => ?_) (fun c_4 => ?_)
    · refine z_aload_n K dX2_earlier_11 rfl rfl rfl ?_
      refine z_get K fd_X2_12_2 (sH_shop) rfl dX2_earlier_12 ?_
      refine z_aload_n K dX2_earlier_15 rfl rfl rfl ?_
      refine z_get K fd_X2_79_5 (sH_op ⟨by omega, by omega⟩ (by omega)) rfl dX2_earlier_16 ?_
      refine z_callV K (gt_jobs ⟨by omega, by omega⟩ (by omega)) cV_X2_59_J2 (sH_jobs) rfl rfl rfl (by omega) (by omega) (by omega) (Nat.le_of_ble_eq_true rfl) dX2_earlier_19 zrX (zrK ?_)
      refine z_castS K (sH_job ⟨by omega, by omega⟩ (by omega)) rfl q417 dX2_earlier_22 ?_
      refine z_get K fd_X2_111_4 (sH_job ⟨by omega, by omega⟩ (by omega)) rfl dX2_earlier_25 ?_
      refine z_aload_n K dX2_earlier_28 rfl rfl rfl ?_
      refine z_get K fd_X2_140_5 (sH_op ⟨by omega, by omega⟩ (by omega)) rfl dX2_earlier_29 ?_
      refine j_iconst K dX2_earlier_32 ?_
      refine j_isub K dX2_earlier_33 ?_
      refine z_callV K (gt_jop ⟨by omega, by omega⟩ (by omega) ⟨by omega, by omega⟩ (by omega)) cV_X2_59_J2 (sH_jbL ⟨by omega, by omega⟩ (by omega)) rfl rfl rfl (by omega) (by omega) (by omega) (Nat.le_of_ble_eq_true rfl) dX2_earlier_34 zrX (zrK ?_)
      refine z_castS K (sH_op ⟨by omega, by omega⟩ (by omega)) rfl q408 dX2_earlier_37 ?_
      refine z_get K fd_X2_115_5 (sH_op ⟨by omega, by omega⟩ (by omega)) rfl dX2_earlier_40 ?_
      exact z_iret K (by omega) (by omega) (⟨rfl, rfl⟩) dX2_earlier_43
    · exact absurd c_4 hz
end XLv

