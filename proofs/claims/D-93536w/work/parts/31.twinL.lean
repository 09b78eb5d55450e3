/-! ===== the reference: dispatching ===== -/
theorem tw_candidateStart {w : tW} {k t : Int} (hA : WfA (w 0)) (hk : 0 ≤ k ∧ k < w 0 1) (ht : 0 ≤ t ∧ t ≤ 999) (hb : sBef (w 0) k = -1 ∨ (0 ≤ w 19 (sBef (w 0) k).toNat ∧ w 19 (sBef (w 0) k).toNat ≤ 10000)) (hn : 0 ≤ sOn (w 0) (sMc (w 0) k) ∧ sOn (w 0) (sMc (w 0) k) ≤ 5)
    (hl : 0 < sOn (w 0) (sMc (w 0) k) → (0 ≤ sOr (w 0) (sMc (w 0) k) (sOn (w 0) (sMc (w 0) k) - 1) ∧ sOr (w 0) (sMc (w 0) k) (sOn (w 0) (sMc (w 0) k) - 1) < w 0 1) ∧ 0 ≤ w 19 (sOr (w 0) (sMc (w 0) k) (sOn (w 0) (sMc (w 0) k) - 1)).toNat ∧ w 19 (sOr (w 0) (sMc (w 0) k) (sOn (w 0) (sMc (w 0) k) - 1)).toNat ≤ 10000) :
    tMi yX4_candidateStart cX4_candidateStart 8 .int 3 [.int (iI k), .int (iI t)] w (fun v w' => v = cst (w 0) (w 19) t k ∧ w' = w) := by
  refine zMet.of (by decide) (Nat.le_of_ble_eq_true rfl) fun X K => ?_
  obtain ⟨a1, a2, a3, a4, a5, a6⟩ := hA.2.1.2 k hk.1 hk.2
  have h20 := hA.2.1.1
  have h5 := hA.1.1
  have hrel := (hA.1.2 _ a1.1 a1.2).1
  have hB := hA.2.2.2.2.2
  have hbo := sBef_ok hA hk.1 hk.2
  have hbd : sBef (w 0) k = -1 ∨ ((0 ≤ sBef (w 0) k ∧ sBef (w 0) k < w 0 1) ∧ 1 ≤ sDu (w 0) (sBef (w 0) k) ∧ sDu (w 0) (sBef (w 0) k) ≤ 30) := hbo.imp id fun q => ⟨q.1, (hA.2.1.2 _ q.1.1 q.1.2).2.2.1⟩
  have hld : 0 < sOn (w 0) (sMc (w 0) k) → (1 ≤ sDu (w 0) (sOr (w 0) (sMc (w 0) k) (sOn (w 0) (sMc (w 0) k) - 1)) ∧ sDu (w 0) (sOr (w 0) (sMc (w 0) k) (sOn (w 0) (sMc (w 0) k) - 1)) ≤ 30) ∧ (0 ≤ sFa (w 0) (sOr (w 0) (sMc (w 0) k) (sOn (w 0) (sMc (w 0) k) - 1)) ∧ sFa (w 0) (sOr (w 0) (sMc (w 0) k) (sOn (w 0) (sMc (w 0) k) - 1)) ≤ 2) ∧ 0 ≤ sSu (w 0) (sOr (w 0) (sMc (w 0) k) (sOn (w 0) (sMc (w 0) k) - 1)) k ∧ sSu (w 0) (sOr (w 0) (sMc (w 0) k) (sOn (w 0) (sMc (w 0) k) - 1)) k ≤ 9 := fun q => by
    have q1 := (hl q).1
    have q2 := hA.su q1 hk
    exact ⟨(hA.2.1.2 _ q1.1 q1.2).2.2.1, q2.1, q2.2.2⟩
  have hcst : cst (w 0) (w 19) t k = sFree (w 0) (sMc (w 0) k) (cT (w 0) (w 19) t k) (sDu (w 0) k) := rfl
  have hct : cT (w 0) (w 19) t k = if 0 < sOn (w 0) (sMc (w 0) k) then max (if sBef (w 0) k = -1 then max t (sRel (w 0) (sJb (w 0) k)) else max (max t (sRel (w 0) (sJb (w 0) k))) (w 19 (sBef (w 0) k).toNat + sDu (w 0) (sBef (w 0) k))) (w 19 (sOr (w 0) (sMc (w 0) k) (sOn (w 0) (sMc (w 0) k) - 1)).toNat + sDu (w 0) (sOr (w 0) (sMc (w 0) k) (sOn (w 0) (sMc (w 0) k) - 1)) + sSu (w 0) (sOr (w 0) (sMc (w 0) k) (sOn (w 0) (sMc (w 0) k) - 1)) k) else (if sBef (w 0) k = -1 then max t (sRel (w 0) (sJb (w 0) k)) else max (max t (sRel (w 0) (sJb (w 0) k))) (w 19 (sBef (w 0) k).toNat + sDu (w 0) (sBef (w 0) k))) := rfl
  clear hbo
  (try dsimp only [sRel, sDue, sWt, sLen, sSeq, sJb, sMc, sDu, sFa, sIx, sSu, sBn, sBf, sBl, sOn, sOr] at *)
  refine z_aload_n K dX4_candidateStart_0 rfl rfl rfl ?_
  refine t_geta K fd_X4_9_0 rfl dX4_candidateStart_1 ?_
  refine j_bipush K dX4_candidateStart_4 (by decide +kernel) ?_
  refine z_iload_n K dX4_candidateStart_6 rfl rfl ?_
  refine j_iadd K dX4_candidateStart_7 ?_
  refine t_ild K 0 203 rfl rfl rfl (by omega) (by omega) rfl dX4_candidateStart_8 ?_
  refine z_istore_n K dX4_candidateStart_9 rfl (by decide) rfl ?_
  refine z_aload_n K dX4_candidateStart_10 rfl rfl rfl ?_
  refine t_geta K fd_X4_9_0 rfl dX4_candidateStart_11 ?_
  refine j_sipush K dX4_candidateStart_14 (by decide +kernel) ?_
  refine z_iload_n K dX4_candidateStart_17 rfl rfl ?_
  refine j_iadd K dX4_candidateStart_18 ?_
  refine t_ild K 0 203 rfl rfl rfl (by omega) (by omega) rfl dX4_candidateStart_19 ?_
  refine z_istore K dX4_candidateStart_20 (by decide) rfl ?_
  refine z_iload_n K dX4_candidateStart_22 rfl rfl ?_
  refine z_aload_n K dX4_candidateStart_23 rfl rfl rfl ?_
  refine t_geta K fd_X4_9_0 rfl dX4_candidateStart_24 ?_
  refine j_iconst K dX4_candidateStart_27 ?_
  refine z_aload_n K dX4_candidateStart_28 rfl rfl rfl ?_
  refine t_geta K fd_X4_9_0 rfl dX4_candidateStart_29 ?_
  refine j_bipush K dX4_candidateStart_32 (by decide +kernel) ?_
  refine z_iload_n K dX4_candidateStart_34 rfl rfl ?_
  refine j_iadd K dX4_candidateStart_35 ?_
  refine t_ild K 0 203 rfl rfl rfl (by omega) (by omega) rfl dX4_candidateStart_36 ?_
  refine j_iadd K dX4_candidateStart_37 ?_
  refine t_ild K 0 203 rfl rfl rfl (by omega) (by omega) rfl dX4_candidateStart_38 ?_
  refine z_calls K (s_max (by omega) (by omega)) cS_X4_167 rfl rfl (by decide) (Nat.le_of_ble_eq_true rfl) (Nat.le_refl _) (Nat.le_refl _) dX4_candidateStart_39 ?_
  refine z_istore K dX4_candidateStart_42 (by decide) rfl ?_
  refine z_aload_n K dX4_candidateStart_44 rfl rfl rfl ?_
  refine z_iload_n K dX4_candidateStart_45 rfl rfl ?_
  refine t_callp K (tw_before hA (by omega)) cV_X4_151_X4 rfl rfl (by decide) (Nat.le_of_ble_eq_true rfl) (Nat.le_refl _) (Nat.le_refl _) dX4_candidateStart_46 ?_
  refine z_istore K dX4_candidateStart_49 (by decide) rfl ?_
  refine z_iload K dX4_candidateStart_51 rfl ?_
  refine j_iconst K dX4_candidateStart_53 ?_
  refine j_icmp_ne (tgt := 62) K dX4_candidateStart_54 rfl (by omega) (by omega) (fun c_54 => ?_) (fun c_54 => ?_)
  · have hb2 := hb.resolve_left c_54
    have hb3 := hbd.resolve_left c_54
    rw [if_neg (by omega : ¬ sBef (w 0) k = -1)] at hct
    refine z_iload K dX4_candidateStart_62 rfl ?_
    refine z_aload_n K dX4_candidateStart_64 rfl rfl rfl ?_
    refine t_geta K fd_X4_46_0 rfl dX4_candidateStart_65 ?_
    refine z_iload K dX4_candidateStart_68 rfl ?_
    refine t_ild K 19 20 rfl rfl rfl (by omega) (by omega) rfl dX4_candidateStart_70 ?_
    refine z_aload_n K dX4_candidateStart_71 rfl rfl rfl ?_
    refine t_geta K fd_X4_9_0 rfl dX4_candidateStart_72 ?_
    refine j_bipush K dX4_candidateStart_75 (by decide +kernel) ?_
    refine z_iload K dX4_candidateStart_77 rfl ?_
    refine j_iadd K dX4_candidateStart_79 ?_
    refine t_ild K 0 203 rfl rfl rfl (by omega) (by omega) rfl dX4_candidateStart_80 ?_
    refine j_iadd K dX4_candidateStart_81 ?_
    refine z_calls K (s_max (by omega) (by omega)) cS_X4_167 rfl rfl (by decide) (Nat.le_of_ble_eq_true rfl) (Nat.le_refl _) (Nat.le_refl _) dX4_candidateStart_82 ?_
    refine z_istore K dX4_candidateStart_85 (by decide) rfl ?_
    refine z_iload K dX4_candidateStart_87 rfl ?_
    refine j_if_le (tgt := 136) K dX4_candidateStart_89 rfl (by omega) (fun c_89 => ?_) (fun c_89 => ?_)
    · rw [if_neg (by omega : ¬ 0 < w 0 (179 + w 0 (62 + k).toNat).toNat)] at hct
      refine z_aload_n K dX4_candidateStart_136 rfl rfl rfl ?_
      refine z_iload_n K dX4_candidateStart_137 rfl rfl ?_
      refine z_iload K dX4_candidateStart_138 rfl ?_
      refine z_aload_n K dX4_candidateStart_140 rfl rfl rfl ?_
      refine t_geta K fd_X4_9_0 rfl dX4_candidateStart_141 ?_
      refine j_bipush K dX4_candidateStart_144 (by decide +kernel) ?_
      refine z_iload_n K dX4_candidateStart_146 rfl rfl ?_
      refine j_iadd K dX4_candidateStart_147 ?_
      refine t_ild K 0 203 rfl rfl rfl (by omega) (by omega) rfl dX4_candidateStart_148 ?_
      refine t_callp K (tw_free hB (by omega) (by omega) (by omega)) cV_X4_178_X4 rfl rfl (by decide) (Nat.le_of_ble_eq_true rfl) (Nat.le_refl _) (Nat.le_refl _) dX4_candidateStart_149 ?_
      exact t_iret K (Nat.le_refl _) (Nat.le_refl _) (⟨by rw [hcst, hct], rfl⟩) dX4_candidateStart_152
    · rw [if_pos (by omega : 0 < w 0 (179 + w 0 (62 + k).toNat).toNat)] at hct
      have hl2 := hl (by omega)
      have hl3 := hld (by omega)
      refine z_aload_n K dX4_candidateStart_92 rfl rfl rfl ?_
      refine z_iload_n K dX4_candidateStart_93 rfl rfl ?_
      refine z_iload K dX4_candidateStart_94 rfl ?_
      refine j_iconst K dX4_candidateStart_96 ?_
      refine j_isub K dX4_candidateStart_97 ?_
      refine t_callp K (tw_ordered (by omega) (by omega)) cV_X4_142_X4 rfl rfl (by decide) (Nat.le_of_ble_eq_true rfl) (Nat.le_refl _) (Nat.le_refl _) dX4_candidateStart_98 ?_
      refine z_istore K dX4_candidateStart_101 (by decide) rfl ?_
      refine z_iload K dX4_candidateStart_103 rfl ?_
      refine z_aload_n K dX4_candidateStart_105 rfl rfl rfl ?_
      refine t_geta K fd_X4_46_0 rfl dX4_candidateStart_106 ?_
      refine z_iload K dX4_candidateStart_109 rfl ?_
      refine t_ild K 19 20 rfl rfl rfl (by omega) (by omega) rfl dX4_candidateStart_111 ?_
      refine z_aload_n K dX4_candidateStart_112 rfl rfl rfl ?_
      refine t_geta K fd_X4_9_0 rfl dX4_candidateStart_113 ?_
      refine j_bipush K dX4_candidateStart_116 (by decide +kernel) ?_
      refine z_iload K dX4_candidateStart_118 rfl ?_
      refine j_iadd K dX4_candidateStart_120 ?_
      refine t_ild K 0 203 rfl rfl rfl (by omega) (by omega) rfl dX4_candidateStart_121 ?_
      refine j_iadd K dX4_candidateStart_122 ?_
      refine z_aload_n K dX4_candidateStart_123 rfl rfl rfl ?_
      refine z_iload K dX4_candidateStart_124 rfl ?_
      refine z_iload_n K dX4_candidateStart_126 rfl rfl ?_
      refine t_callp K (tw_setup (by omega) (by omega) (by omega) (by omega)) cV_X4_172_X4 rfl rfl (by decide) (Nat.le_of_ble_eq_true rfl) (Nat.le_refl _) (Nat.le_refl _) dX4_candidateStart_127 ?_
      refine j_iadd K dX4_candidateStart_130 ?_
      refine z_calls K (s_max (by omega) (by omega)) cS_X4_167 rfl rfl (by decide) (Nat.le_of_ble_eq_true rfl) (Nat.le_refl _) (Nat.le_refl _) dX4_candidateStart_131 ?_
      refine z_istore K dX4_candidateStart_134 (by decide) rfl ?_
      refine z_aload_n K dX4_candidateStart_136 rfl rfl rfl ?_
      refine z_iload_n K dX4_candidateStart_137 rfl rfl ?_
      refine z_iload K dX4_candidateStart_138 rfl ?_
      refine z_aload_n K dX4_candidateStart_140 rfl rfl rfl ?_
      refine t_geta K fd_X4_9_0 rfl dX4_candidateStart_141 ?_
      refine j_bipush K dX4_candidateStart_144 (by decide +kernel) ?_
      refine z_iload_n K dX4_candidateStart_146 rfl rfl ?_
      refine j_iadd K dX4_candidateStart_147 ?_
      refine t_ild K 0 203 rfl rfl rfl (by omega) (by omega) rfl dX4_candidateStart_148 ?_
      refine t_callp K (tw_free hB (by omega) (by omega) (by omega)) cV_X4_178_X4 rfl rfl (by decide) (Nat.le_of_ble_eq_true rfl) (Nat.le_refl _) (Nat.le_refl _) dX4_candidateStart_149 ?_
      exact t_iret K (Nat.le_refl _) (Nat.le_refl _) (⟨by rw [hcst, hct], rfl⟩) dX4_candidateStart_152
  · rw [if_pos (by omega : sBef (w 0) k = -1)] at hct
    refine z_iload K dX4_candidateStart_57 rfl ?_
    refine z_goto (tgt := 85) K dX4_candidateStart_59 rfl ?_
    refine z_istore K dX4_candidateStart_85 (by decide) rfl ?_
    refine z_iload K dX4_candidateStart_87 rfl ?_
    refine j_if_le (tgt := 136) K dX4_candidateStart_89 rfl (by omega) (fun c_89 => ?_) (fun c_89 => ?_)
    · rw [if_neg (by omega : ¬ 0 < w 0 (179 + w 0 (62 + k).toNat).toNat)] at hct
      refine z_aload_n K dX4_candidateStart_136 rfl rfl rfl ?_
      refine z_iload_n K dX4_candidateStart_137 rfl rfl ?_
      refine z_iload K dX4_candidateStart_138 rfl ?_
      refine z_aload_n K dX4_candidateStart_140 rfl rfl rfl ?_
      refine t_geta K fd_X4_9_0 rfl dX4_candidateStart_141 ?_
      refine j_bipush K dX4_candidateStart_144 (by decide +kernel) ?_
      refine z_iload_n K dX4_candidateStart_146 rfl rfl ?_
      refine j_iadd K dX4_candidateStart_147 ?_
      refine t_ild K 0 203 rfl rfl rfl (by omega) (by omega) rfl dX4_candidateStart_148 ?_
      refine t_callp K (tw_free hB (by omega) (by omega) (by omega)) cV_X4_178_X4 rfl rfl (by decide) (Nat.le_of_ble_eq_true rfl) (Nat.le_refl _) (Nat.le_refl _) dX4_candidateStart_149 ?_
      exact t_iret K (Nat.le_refl _) (Nat.le_refl _) (⟨by rw [hcst, hct], rfl⟩) dX4_candidateStart_152
    · rw [if_pos (by omega : 0 < w 0 (179 + w 0 (62 + k).toNat).toNat)] at hct
      have hl2 := hl (by omega)
      have hl3 := hld (by omega)
      refine z_aload_n K dX4_candidateStart_92 rfl rfl rfl ?_
      refine z_iload_n K dX4_candidateStart_93 rfl rfl ?_
      refine z_iload K dX4_candidateStart_94 rfl ?_
      refine j_iconst K dX4_candidateStart_96 ?_
      refine j_isub K dX4_candidateStart_97 ?_
      refine t_callp K (tw_ordered (by omega) (by omega)) cV_X4_142_X4 rfl rfl (by decide) (Nat.le_of_ble_eq_true rfl) (Nat.le_refl _) (Nat.le_refl _) dX4_candidateStart_98 ?_
      refine z_istore K dX4_candidateStart_101 (by decide) rfl ?_
      refine z_iload K dX4_candidateStart_103 rfl ?_
      refine z_aload_n K dX4_candidateStart_105 rfl rfl rfl ?_
      refine t_geta K fd_X4_46_0 rfl dX4_candidateStart_106 ?_
      refine z_iload K dX4_candidateStart_109 rfl ?_
      refine t_ild K 19 20 rfl rfl rfl (by omega) (by omega) rfl dX4_candidateStart_111 ?_
      refine z_aload_n K dX4_candidateStart_112 rfl rfl rfl ?_
      refine t_geta K fd_X4_9_0 rfl dX4_candidateStart_113 ?_
      refine j_bipush K dX4_candidateStart_116 (by decide +kernel) ?_
      refine z_iload K dX4_candidateStart_118 rfl ?_
      refine j_iadd K dX4_candidateStart_120 ?_
      refine t_ild K 0 203 rfl rfl rfl (by omega) (by omega) rfl dX4_candidateStart_121 ?_
      refine j_iadd K dX4_candidateStart_122 ?_
      refine z_aload_n K dX4_candidateStart_123 rfl rfl rfl ?_
      refine z_iload K dX4_candidateStart_124 rfl ?_
      refine z_iload_n K dX4_candidateStart_126 rfl rfl ?_
      refine t_callp K (tw_setup (by omega) (by omega) (by omega) (by omega)) cV_X4_172_X4 rfl rfl (by decide) (Nat.le_of_ble_eq_true rfl) (Nat.le_refl _) (Nat.le_refl _) dX4_candidateStart_127 ?_
      refine j_iadd K dX4_candidateStart_130 ?_
      refine z_calls K (s_max (by omega) (by omega)) cS_X4_167 rfl rfl (by decide) (Nat.le_of_ble_eq_true rfl) (Nat.le_refl _) (Nat.le_refl _) dX4_candidateStart_131 ?_
      refine z_istore K dX4_candidateStart_134 (by decide) rfl ?_
      refine z_aload_n K dX4_candidateStart_136 rfl rfl rfl ?_
      refine z_iload_n K dX4_candidateStart_137 rfl rfl ?_
      refine z_iload K dX4_candidateStart_138 rfl ?_
      refine z_aload_n K dX4_candidateStart_140 rfl rfl rfl ?_
      refine t_geta K fd_X4_9_0 rfl dX4_candidateStart_141 ?_
      refine j_bipush K dX4_candidateStart_144 (by decide +kernel) ?_
      refine z_iload_n K dX4_candidateStart_146 rfl rfl ?_
      refine j_iadd K dX4_candidateStart_147 ?_
      refine t_ild K 0 203 rfl rfl rfl (by omega) (by omega) rfl dX4_candidateStart_148 ?_
      refine t_callp K (tw_free hB (by omega) (by omega) (by omega)) cV_X4_178_X4 rfl rfl (by decide) (Nat.le_of_ble_eq_true rfl) (Nat.le_refl _) (Nat.le_refl _) dX4_candidateStart_149 ?_
      exact t_iret K (Nat.le_refl _) (Nat.le_refl _) (⟨by rw [hcst, hct], rfl⟩) dX4_candidateStart_152
theorem rst_r {s : Nat → Int} (hA : WfA s) {j i : Int} (hj : 0 ≤ j ∧ j < s 0) (hi : 0 ≤ i) : ∀ r : Nat, i + r ≤ sLen s j → 0 ≤ rst s j i r ∧ rst s j i r ≤ 30 * r
  | 0, _ => by simp [rst]
  | r + 1, h => by
    have a := rst_r hA hj hi r (by omega)
    have b := (hA.2.2.1 j (i + r) hj.1 hj.2 (by omega) (by omega)).1
    have c := (hA.2.1.2 _ b.1 b.2).2.2.1
    unfold rst
    omega
theorem tw_restOf {w : tW} {k : Int} (hA : WfA (w 0)) (hk : 0 ≤ k ∧ k < w 0 1) : tMi yX4_restOf cX4_restOf 5 .int 2 [.int (iI k)] w (fun v w' => v = rOf (w 0) k ∧ w' = w) := by
  refine zMet.of (by decide) (Nat.le_of_ble_eq_true rfl) fun X K => ?_
  obtain ⟨a1, a2, a3, a4, a5, a6⟩ := hA.2.1.2 k hk.1 hk.2
  have h20 := hA.2.1.1
  have h5 := hA.1.1
  have hln := (hA.1.2 _ a1.1 a1.2).2.2.2
  have hst := fun i i0 i1 => (hA.2.2.1 _ i a1.1 a1.2 i0 i1).1
  have hrr := fun r => rst_r hA a1 a5.1 r
  have e1 : rOf (w 0) k = rst (w 0) (w 0 (42 + k).toNat) (w 0 (122 + k).toNat) (w 0 (17 + w 0 (42 + k).toNat).toNat - w 0 (122 + k).toNat).toNat := rfl
  have e2 : ∀ r : Nat, rst (w 0) (w 0 (42 + k).toNat) (w 0 (122 + k).toNat) (r + 1) = rst (w 0) (w 0 (42 + k).toNat) (w 0 (122 + k).toNat) r + w 0 (82 + w 0 (22 + 4 * w 0 (42 + k).toNat + (w 0 (122 + k).toNat + r)).toNat).toNat := fun r => rfl
  (try dsimp only [sRel, sDue, sWt, sLen, sSeq, sJb, sMc, sDu, sFa, sIx, sSu, sBn, sBf, sBl, sOn, sOr] at *)
  generalize hj : w 0 (42 + k).toNat = j at *
  generalize hx : w 0 (122 + k).toNat = x at *
  generalize hL : w 0 (17 + j).toNat = L at *
  have loop : ∀ (r n : Nat), x + n + r = L → ∀ env, zsub env [(0, .ref 1000), (2, .int (iI j)), (3, .int (iI (rst (w 0) j x n))), (4, .int (iI (x + n)))] → zW X (zPi fun x h' => ∃ v w', x = iI v ∧ h' = tH w' ∧ (v = rOf (w 0) k ∧ w' = w)) (tH w) 0 0 23 env [] := by
    intro r
    induction r with
    | zero =>
      intro n hn env he
      refine zW.cut he ?_
      refine z_iload K dX4_restOf_23 rfl ?_
      refine z_aload_n K dX4_restOf_25 rfl rfl rfl ?_
      refine t_geta K fd_X4_9_0 rfl dX4_restOf_26 ?_
      refine j_bipush K dX4_restOf_29 (by decide +kernel) ?_
      refine z_iload_n K dX4_restOf_31 rfl rfl ?_
      refine j_iadd K dX4_restOf_32 ?_
      refine t_ild K 0 203 rfl rfl rfl (by omega) (by omega) rfl dX4_restOf_33 ?_
      rw [hL]
      refine j_icmp_ge (tgt := 61) K dX4_restOf_34 rfl (by omega) (by omega) (fun c_34 => ?_) (fun c_34 => ?_)
      · refine z_iload_n K dX4_restOf_61 rfl rfl ?_
        exact t_iret K (Nat.le_refl _) (Nat.le_refl _) (⟨by rw [e1, show n = (L - x).toNat by omega], rfl⟩) dX4_restOf_62
      · exact absurd c_34 (by omega)
    | succ r ih =>
      intro n hn env he
      refine zW.cut he ?_
      have hq := hst (x + n) (by omega) (by omega)
      have hd := (hA.2.1.2 _ hq.1 hq.2).2.2.1
      have hr2 := hrr n (by omega)
      (try dsimp only [sRel, sDue, sWt, sLen, sSeq, sJb, sMc, sDu, sFa, sIx, sSu, sBn, sBf, sBl, sOn, sOr] at *)
      have fin : ∀ a b : Int, a = rst (w 0) j x (n + 1) → b = x + (n + 1 : Nat) → ∀ env, zsub env [(0, .ref 1000), (2, .int (iI j)), (3, .int (iI a)), (4, .int (iI b))] → zW X (zPi fun x h' => ∃ v w', x = iI v ∧ h' = tH w' ∧ (v = rOf (w 0) k ∧ w' = w)) (tH w) 0 0 23 env [] := fun a b ha hb env he => ih (n + 1) (by omega) env (by rw [ha, hb] at he; exact he)
      refine z_iload K dX4_restOf_23 rfl ?_
      refine z_aload_n K dX4_restOf_25 rfl rfl rfl ?_
      refine t_geta K fd_X4_9_0 rfl dX4_restOf_26 ?_
      refine j_bipush K dX4_restOf_29 (by decide +kernel) ?_
      refine z_iload_n K dX4_restOf_31 rfl rfl ?_
      refine j_iadd K dX4_restOf_32 ?_
      refine t_ild K 0 203 rfl rfl rfl (by omega) (by omega) rfl dX4_restOf_33 ?_
      rw [hL]
      refine j_icmp_ge (tgt := 61) K dX4_restOf_34 rfl (by omega) (by omega) (fun c_34 => ?_) (fun c_34 => ?_)
      · exact absurd c_34 (by omega)
      · refine z_iload_n K dX4_restOf_37 rfl rfl ?_
        refine z_aload_n K dX4_restOf_38 rfl rfl rfl ?_
        refine t_geta K fd_X4_9_0 rfl dX4_restOf_39 ?_
        refine j_bipush K dX4_restOf_42 (by decide +kernel) ?_
        refine z_aload_n K dX4_restOf_44 rfl rfl rfl ?_
        refine z_iload_n K dX4_restOf_45 rfl rfl ?_
        refine z_iload K dX4_restOf_46 rfl ?_
        refine t_callp K (tw_sequence (by omega) (by omega)) cV_X4_110_X4 rfl rfl (by decide) (Nat.le_of_ble_eq_true rfl) (Nat.le_refl _) (Nat.le_refl _) dX4_restOf_48 ?_
        refine j_iadd K dX4_restOf_51 ?_
        refine t_ild K 0 203 rfl rfl rfl (by omega) (by omega) rfl dX4_restOf_52 ?_
        refine j_iadd K dX4_restOf_53 ?_
        refine z_istore_n K dX4_restOf_54 rfl (by decide) rfl ?_
        refine j_iinc K dX4_restOf_55 rfl (by decide) rfl ?_
        refine z_goto (tgt := 23) K dX4_restOf_58 rfl ?_
        exact fin _ _ (by rw [e2]) (by omega) _ ⟨rfl, rfl, rfl, rfl, trivial⟩
  have go : ∀ env, zsub env [(0, .ref 1000), (2, .int (iI j)), (3, .int (iI 0)), (4, .int (iI x))] → zW X (zPi fun x h' => ∃ v w', x = iI v ∧ h' = tH w' ∧ (v = rOf (w 0) k ∧ w' = w)) (tH w) 0 0 23 env [] := fun env he => loop (L - x).toNat 0 (by omega) env (by rw [show x + ((0 : Nat) : Int) = x by omega]; exact he)
  refine z_aload_n K dX4_restOf_0 rfl rfl rfl ?_
  refine t_geta K fd_X4_9_0 rfl dX4_restOf_1 ?_
  refine j_bipush K dX4_restOf_4 (by decide +kernel) ?_
  refine z_iload_n K dX4_restOf_6 rfl rfl ?_
  refine j_iadd K dX4_restOf_7 ?_
  refine t_ild K 0 203 rfl rfl rfl (by omega) (by omega) rfl dX4_restOf_8 ?_
  rw [hj]
  refine z_istore_n K dX4_restOf_9 rfl (by decide) rfl ?_
  refine j_iconst K dX4_restOf_10 ?_
  refine z_istore_n K dX4_restOf_11 rfl (by decide) rfl ?_
  refine z_aload_n K dX4_restOf_12 rfl rfl rfl ?_
  refine t_geta K fd_X4_9_0 rfl dX4_restOf_13 ?_
  refine j_bipush K dX4_restOf_16 (by decide +kernel) ?_
  refine z_iload_n K dX4_restOf_18 rfl rfl ?_
  refine j_iadd K dX4_restOf_19 ?_
  refine t_ild K 0 203 rfl rfl rfl (by omega) (by omega) rfl dX4_restOf_20 ?_
  rw [hx]
  refine z_istore K dX4_restOf_21 (by decide) rfl ?_
  exact go _ ⟨rfl, rfl, rfl, rfl, trivial⟩
theorem rOf_r {s : Nat → Int} (hA : WfA s) {k : Int} (hk : 0 ≤ k ∧ k < s 1) : 0 ≤ rOf s k ∧ rOf s k ≤ 120 := by
  obtain ⟨a1, a2, a3, a4, a5, a6⟩ := hA.2.1.2 k hk.1 hk.2
  have hln := (hA.1.2 _ a1.1 a1.2).2.2.2
  have := rst_r hA a1 a5.1 (sLen s (sJb s k) - sIx s k).toNat (by omega)
  unfold rOf
  omega
theorem tw_prefers {w : tW} {u k l : Int} (hA : WfA (w 0)) (hu : 0 ≤ u ∧ u ≤ 3) (hk : 0 ≤ k ∧ k < w 0 1) (hl : 0 ≤ l ∧ l < w 0 1) : tMi yX4_prefers cX4_prefers 4 .boolean 3 [.int (iI u), .int (iI k), .int (iI l)] w (fun v w' => v = bI (pfr (w 0) u k l) ∧ w' = w) := by
  refine zMet.of (by decide) (Nat.le_of_ble_eq_true rfl) fun X K => ?_
  have h20 := hA.2.1.1
  have h5 := hA.1.1
  have rk := rOf_r hA hk
  have rl := rOf_r hA hl
  obtain ⟨a1, -, a3, -⟩ := hA.2.1.2 k hk.1 hk.2
  obtain ⟨b1, -, b3, -⟩ := hA.2.1.2 l hl.1 hl.2
  have dk := (hA.1.2 _ a1.1 a1.2).2.1
  have dl := (hA.1.2 _ b1.1 b1.2).2.1
  (try dsimp only [sRel, sDue, sWt, sLen, sSeq, sJb, sMc, sDu, sFa, sIx, sSu, sBn, sBf, sBl, sOn, sOr] at *)
  rcases (by omega : u = 0 ∨ u = 1 ∨ u = 2 ∨ u = 3) with rfl | rfl | rfl | rfl
  · refine z_iload_n K dX4_prefers_0 rfl rfl ?_
    refine z_tableIn (tgt := 28) K dX4_prefers_1 (by decide) (by decide) rfl rfl ?_
    refine z_aload_n K dX4_prefers_28 rfl rfl rfl ?_
    refine t_geta K fd_X4_9_0 rfl dX4_prefers_29 ?_
    refine j_bipush K dX4_prefers_32 (by decide +kernel) ?_
    refine z_iload_n K dX4_prefers_34 rfl rfl ?_
    refine j_iadd K dX4_prefers_35 ?_
    refine t_ild K 0 203 rfl rfl rfl (by omega) (by omega) rfl dX4_prefers_36 ?_
    refine z_aload_n K dX4_prefers_37 rfl rfl rfl ?_
    refine t_geta K fd_X4_9_0 rfl dX4_prefers_38 ?_
    refine j_bipush K dX4_prefers_41 (by decide +kernel) ?_
    refine z_iload_n K dX4_prefers_43 rfl rfl ?_
    refine j_iadd K dX4_prefers_44 ?_
    refine t_ild K 0 203 rfl rfl rfl (by omega) (by omega) rfl dX4_prefers_45 ?_
    refine j_icmp_ge (tgt := 53) K dX4_prefers_46 rfl (by omega) (by omega) (fun c_46 => ?_) (fun c_46 => ?_)
    · refine j_iconst K dX4_prefers_53 ?_
      exact t_zret K (by omega) (Nat.le_refl _) (Nat.le_refl _) (⟨by unfold bI pfr; (try dsimp only [sRel, sDue, sWt, sLen, sSeq, sJb, sMc, sDu, sFa, sIx, sSu, sBn, sBf, sBl, sOn, sOr] at *); split <;> omega, rfl⟩) dX4_prefers_54
    · refine j_iconst K dX4_prefers_49 ?_
      refine z_goto (tgt := 54) K dX4_prefers_50 rfl ?_
      exact t_zret K (by omega) (Nat.le_refl _) (Nat.le_refl _) (⟨by unfold bI pfr; (try dsimp only [sRel, sDue, sWt, sLen, sSeq, sJb, sMc, sDu, sFa, sIx, sSu, sBn, sBf, sBl, sOn, sOr] at *); split <;> omega, rfl⟩) dX4_prefers_54
  · refine z_iload_n K dX4_prefers_0 rfl rfl ?_
    refine z_tableIn (tgt := 55) K dX4_prefers_1 (by decide) (by decide) rfl rfl ?_
    refine z_aload_n K dX4_prefers_55 rfl rfl rfl ?_
    refine z_iload_n K dX4_prefers_56 rfl rfl ?_
    refine t_callp K (tw_restOf hA (by omega)) cV_X4_232_X4 rfl rfl (by decide) (Nat.le_of_ble_eq_true rfl) (Nat.le_refl _) (Nat.le_refl _) dX4_prefers_57 ?_
    refine z_aload_n K dX4_prefers_60 rfl rfl rfl ?_
    refine z_iload_n K dX4_prefers_61 rfl rfl ?_
    refine t_callp K (tw_restOf hA (by omega)) cV_X4_232_X4 rfl rfl (by decide) (Nat.le_of_ble_eq_true rfl) (Nat.le_refl _) (Nat.le_refl _) dX4_prefers_62 ?_
    refine j_icmp_le (tgt := 72) K dX4_prefers_65 rfl (by omega) (by omega) (fun c_65 => ?_) (fun c_65 => ?_)
    · refine j_iconst K dX4_prefers_72 ?_
      exact t_zret K (by omega) (Nat.le_refl _) (Nat.le_refl _) (⟨by unfold bI pfr; (try dsimp only [sRel, sDue, sWt, sLen, sSeq, sJb, sMc, sDu, sFa, sIx, sSu, sBn, sBf, sBl, sOn, sOr] at *); split <;> omega, rfl⟩) dX4_prefers_73
    · refine j_iconst K dX4_prefers_68 ?_
      refine z_goto (tgt := 73) K dX4_prefers_69 rfl ?_
      exact t_zret K (by omega) (Nat.le_refl _) (Nat.le_refl _) (⟨by unfold bI pfr; (try dsimp only [sRel, sDue, sWt, sLen, sSeq, sJb, sMc, sDu, sFa, sIx, sSu, sBn, sBf, sBl, sOn, sOr] at *); split <;> omega, rfl⟩) dX4_prefers_73
  · refine z_iload_n K dX4_prefers_0 rfl rfl ?_
    refine z_tableIn (tgt := 74) K dX4_prefers_1 (by decide) (by decide) rfl rfl ?_
    refine z_aload_n K dX4_prefers_74 rfl rfl rfl ?_
    refine t_geta K fd_X4_9_0 rfl dX4_prefers_75 ?_
    refine j_bipush K dX4_prefers_78 (by decide +kernel) ?_
    refine z_aload_n K dX4_prefers_80 rfl rfl rfl ?_
    refine t_geta K fd_X4_9_0 rfl dX4_prefers_81 ?_
    refine j_bipush K dX4_prefers_84 (by decide +kernel) ?_
    refine z_iload_n K dX4_prefers_86 rfl rfl ?_
    refine j_iadd K dX4_prefers_87 ?_
    refine t_ild K 0 203 rfl rfl rfl (by omega) (by omega) rfl dX4_prefers_88 ?_
    refine j_iadd K dX4_prefers_89 ?_
    refine t_ild K 0 203 rfl rfl rfl (by omega) (by omega) rfl dX4_prefers_90 ?_
    refine z_aload_n K dX4_prefers_91 rfl rfl rfl ?_
    refine t_geta K fd_X4_9_0 rfl dX4_prefers_92 ?_
    refine j_bipush K dX4_prefers_95 (by decide +kernel) ?_
    refine z_aload_n K dX4_prefers_97 rfl rfl rfl ?_
    refine t_geta K fd_X4_9_0 rfl dX4_prefers_98 ?_
    refine j_bipush K dX4_prefers_101 (by decide +kernel) ?_
    refine z_iload_n K dX4_prefers_103 rfl rfl ?_
    refine j_iadd K dX4_prefers_104 ?_
    refine t_ild K 0 203 rfl rfl rfl (by omega) (by omega) rfl dX4_prefers_105 ?_
    refine j_iadd K dX4_prefers_106 ?_
    refine t_ild K 0 203 rfl rfl rfl (by omega) (by omega) rfl dX4_prefers_107 ?_
    refine j_icmp_ge (tgt := 115) K dX4_prefers_108 rfl (by omega) (by omega) (fun c_108 => ?_) (fun c_108 => ?_)
    · refine j_iconst K dX4_prefers_115 ?_
      exact t_zret K (by omega) (Nat.le_refl _) (Nat.le_refl _) (⟨by unfold bI pfr; (try dsimp only [sRel, sDue, sWt, sLen, sSeq, sJb, sMc, sDu, sFa, sIx, sSu, sBn, sBf, sBl, sOn, sOr] at *); split <;> omega, rfl⟩) dX4_prefers_116
    · refine j_iconst K dX4_prefers_111 ?_
      refine z_goto (tgt := 116) K dX4_prefers_112 rfl ?_
      exact t_zret K (by omega) (Nat.le_refl _) (Nat.le_refl _) (⟨by unfold bI pfr; (try dsimp only [sRel, sDue, sWt, sLen, sSeq, sJb, sMc, sDu, sFa, sIx, sSu, sBn, sBf, sBl, sOn, sOr] at *); split <;> omega, rfl⟩) dX4_prefers_116
  · refine z_iload_n K dX4_prefers_0 rfl rfl ?_
    refine z_tableOut (tgt := 117) K dX4_prefers_1 (Or.inr (by decide)) rfl ?_
    refine j_iconst K dX4_prefers_117 ?_
    exact t_zret K (by omega) (Nat.le_refl _) (Nat.le_refl _) (⟨by unfold bI pfr; (try dsimp only [sRel, sDue, sWt, sLen, sSeq, sJb, sMc, sDu, sFa, sIx, sSu, sBn, sBf, sBl, sOn, sOr] at *); split <;> omega, rfl⟩) dX4_prefers_118

