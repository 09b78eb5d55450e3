/-! ===== the reference: breakdowns, questions, the leaves of the times ===== -/
theorem s_max {a b : Int} (ha : -2147483648 ≤ a ∧ a ≤ 2147483647) (hb : -2147483648 ≤ b ∧ b ≤ 2147483647) : zMs yJ4_max cJ4_max 2 .int 1 [.int (iI a), .int (iI b)] (max a b) := by
  intro h
  refine zMet.of (by decide +kernel) (Nat.le_of_ble_eq_true rfl) fun X K => ?_
  refine z_iload_n K dJ4_max_0 rfl rfl ?_
  refine z_iload_n K dJ4_max_1 rfl rfl ?_
  refine j_icmp_lt (tgt := 9) K dJ4_max_2 rfl (by omega) (by omega) (fun c_2 => ?_) (fun c_2 => ?_)
  · refine z_iload_n K dJ4_max_9 rfl rfl ?_
    exact s_iret K (Nat.le_refl _) (Nat.le_refl _) (by omega) dJ4_max_10
  · refine z_iload_n K dJ4_max_5 rfl rfl ?_
    refine z_goto (tgt := 10) K dJ4_max_6 rfl ?_
    exact s_iret K (Nat.le_refl _) (Nat.le_refl _) (by omega) dJ4_max_10
noncomputable def tcAddBreak (w : tW) (m a b : Int) : Int := if ¬ (0 ≤ m ∧ m ≤ 3) then 1 else if ¬ ((0 ≤ a ∧ a ≤ 400) ∧ 1 ≤ b ∧ b ≤ 60) then 2 else if w 0 (151 + m).toNat = 3 then 3 else 0
def wBreak (w : tW) (m a b : Int) : tW := tset (tset (tset w 0 (155 + (3 * m + w 0 (151 + m).toNat)).toNat a) 0 (167 + (3 * m + w 0 (151 + m).toNat)).toNat b) 0 (151 + m).toNat (w 0 (151 + m).toNat + 1)
theorem tw_addBreakdown {w : tW} {m a b : Int} (hm : -2147483648 ≤ m ∧ m ≤ 2147483647) (ha : -2147483648 ≤ a ∧ a ≤ 2147483647) (hb : -2147483648 ≤ b ∧ b ≤ 2147483647) (hB : WfB (w 0)) :
    tMi yX4_addBreakdown cX4_addBreakdown 5 .int 4 [.int (iI m), .int (iI a), .int (iI b)] w (fun v9 w' => pub w (tcAddBreak w m a b) (w 0 (151 + m).toNat + 1) (wBreak (tset w 3 0 0) m a b) w' v9) := by
  refine zMet.of (by decide) (Nat.le_of_ble_eq_true rfl) fun X K => ?_
  have tail : ∀ t : Int, t = tcAddBreak w m a b → 0 ≤ t ∧ t ≤ 3 → (t = 0 → (0 ≤ m ∧ m ≤ 3) ∧ w 0 (151 + m).toNat ≠ 3) → ∀ env, zsub env [(0, .ref 1000), (1, .int (iI m)), (2, .int (iI a)), (3, .int (iI b))] → zW X (zPi fun x h' => ∃ v9 w', x = iI v9 ∧ h' = tH w' ∧ pub w (tcAddBreak w m a b) (w 0 (151 + m).toNat + 1) (wBreak (tset w 3 0 0) m a b) w' v9) (tH w) 0 0 59 env [.int (iI t), .ref 1000] := by
    intro t ht hr h5 env he
    refine zW.cut he ?_
    refine t_puti K fd_X4_79_0 ⟨_, rfl, Or.inl rfl⟩ (by decide) rfl rfl dX4_addBreakdown_59 ?_
    refine z_aload_n K dX4_addBreakdown_62 rfl rfl rfl ?_
    refine t_geti K fd_X4_79_0 (by decide) rfl dX4_addBreakdown_63 ?_
    refine j_if_le (tgt := 71) K dX4_addBreakdown_66 rfl (by rw [tset_s]; omega) (fun c_66 => ?_) (fun c_66 => ?_)
    · rw [tset_s] at c_66
      obtain rfl : t = 0 := by omega
      have h7 := h5 rfl
      have h8 := (hB m h7.1.1 h7.1.2).1
      (try dsimp only [sRel, sDue, sWt, sLen, sSeq, sJb, sMc, sDu, sFa, sIx, sSu, sBn, sBf, sBl, sOn, sOr] at *)
      refine j_iconst K dX4_addBreakdown_71 ?_
      refine z_iload_n K dX4_addBreakdown_72 rfl rfl ?_
      refine j_imul K dX4_addBreakdown_73 ?_
      refine z_aload_n K dX4_addBreakdown_74 rfl rfl rfl ?_
      refine t_geta K fd_X4_9_0 rfl dX4_addBreakdown_75 ?_
      refine j_sipush K dX4_addBreakdown_78 (by decide +kernel) ?_
      refine z_iload_n K dX4_addBreakdown_81 rfl rfl ?_
      refine j_iadd K dX4_addBreakdown_82 ?_
      refine t_ild K 0 203 rfl rfl rfl (by omega) (by omega) rfl dX4_addBreakdown_83 ?_
      rw [tset_f (by decide)]
      refine j_iadd K dX4_addBreakdown_84 ?_
      refine z_istore K dX4_addBreakdown_85 (by decide) rfl ?_
      refine z_aload_n K dX4_addBreakdown_87 rfl rfl rfl ?_
      refine t_geta K fd_X4_9_0 rfl dX4_addBreakdown_88 ?_
      refine j_sipush K dX4_addBreakdown_91 (by decide +kernel) ?_
      refine z_iload K dX4_addBreakdown_94 rfl ?_
      refine j_iadd K dX4_addBreakdown_96 ?_
      refine z_iload_n K dX4_addBreakdown_97 rfl rfl ?_
      refine t_ist K 0 203 rfl rfl rfl (by omega) (by omega) rfl dX4_addBreakdown_98 ?_
      refine z_aload_n K dX4_addBreakdown_99 rfl rfl rfl ?_
      refine t_geta K fd_X4_9_0 rfl dX4_addBreakdown_100 ?_
      refine j_sipush K dX4_addBreakdown_103 (by decide +kernel) ?_
      refine z_iload K dX4_addBreakdown_106 rfl ?_
      refine j_iadd K dX4_addBreakdown_108 ?_
      refine z_iload_n K dX4_addBreakdown_109 rfl rfl ?_
      refine t_ist K 0 203 rfl rfl rfl (by omega) (by omega) rfl dX4_addBreakdown_110 ?_
      refine z_aload_n K dX4_addBreakdown_111 rfl rfl rfl ?_
      refine t_geta K fd_X4_9_0 rfl dX4_addBreakdown_112 ?_
      refine j_sipush K dX4_addBreakdown_115 (by decide +kernel) ?_
      refine z_iload_n K dX4_addBreakdown_118 rfl rfl ?_
      refine j_iadd K dX4_addBreakdown_119 ?_
      refine z_dup2 K dX4_addBreakdown_120 rfl rfl ?_
      refine t_ild K 0 203 rfl rfl rfl (by omega) (by omega) rfl dX4_addBreakdown_121 ?_
      rw [tset_i (by omega), tset_i (by omega), tset_f (by decide)]
      refine j_iconst K dX4_addBreakdown_122 ?_
      refine j_iadd K dX4_addBreakdown_123 ?_
      refine t_ist K 0 203 rfl rfl rfl (by omega) (by omega) rfl dX4_addBreakdown_124 ?_
      refine z_aload_n K dX4_addBreakdown_125 rfl rfl rfl ?_
      refine t_geta K fd_X4_9_0 rfl dX4_addBreakdown_126 ?_
      refine j_sipush K dX4_addBreakdown_129 (by decide +kernel) ?_
      refine z_iload_n K dX4_addBreakdown_132 rfl rfl ?_
      refine j_iadd K dX4_addBreakdown_133 ?_
      refine t_ild K 0 203 rfl rfl rfl (by omega) (by omega) rfl dX4_addBreakdown_134 ?_
      rw [tset_s]
      exact t_iret K (Nat.le_refl _) (Nat.le_refl _) (⟨fun q => ⟨rfl, rfl⟩, fun q => absurd ht.symm q⟩) dX4_addBreakdown_135
    · rw [tset_s] at c_66
      refine j_iconst K dX4_addBreakdown_69 ?_
      exact t_iret K (Nat.le_refl _) (Nat.le_refl _) (⟨fun q => by omega, fun q => by rw [ht]⟩) dX4_addBreakdown_70
  refine z_aload_n K dX4_addBreakdown_0 rfl rfl rfl ?_
  refine z_iload_n K dX4_addBreakdown_1 rfl rfl ?_
  refine z_calls K (s_isMachine (by omega)) cS_X4_122 rfl rfl (by decide) (Nat.le_of_ble_eq_true rfl) (Nat.le_refl _) (Nat.le_refl _) dX4_addBreakdown_2 ?_
  refine j_if_ne (tgt := 12) K dX4_addBreakdown_5 rfl (b01r _) (fun c_5 => ?_) (fun c_5 => ?_)
  · rw [bI_ne] at c_5
    have h8 := (hB m c_5.1 c_5.2).1
    (try dsimp only [sRel, sDue, sWt, sLen, sSeq, sJb, sMc, sDu, sFa, sIx, sSu, sBn, sBf, sBl, sOn, sOr] at *)
    refine z_iload_n K dX4_addBreakdown_12 rfl rfl ?_
    refine j_i2l K (by omega) dX4_addBreakdown_13 ?_
    refine j_lconst0 K dX4_addBreakdown_14 ?_
    refine j_ldc2 K 400 q1983 (by decide +kernel) dX4_addBreakdown_15 ?_
    refine z_calls K (s_in (by omega) (by omega) (by omega)) cS_X4_82 rfl rfl (by decide) (Nat.le_of_ble_eq_true rfl) (Nat.le_refl _) (Nat.le_refl _) dX4_addBreakdown_18 ?_
    refine j_if_eq (tgt := 36) K dX4_addBreakdown_21 rfl (b01r _) (fun c_21 => ?_) (fun c_21 => ?_)
    · rw [bI_eq] at c_21
      refine j_iconst K dX4_addBreakdown_36 ?_
      refine z_goto (tgt := 59) K dX4_addBreakdown_37 rfl ?_
      exact tail _ (by unfold tcAddBreak; simp [*]) (by omega) (by omega) _ ⟨rfl, rfl, rfl, rfl, trivial⟩
    · rw [bI_ne] at c_21
      refine z_iload_n K dX4_addBreakdown_24 rfl rfl ?_
      refine j_i2l K (by omega) dX4_addBreakdown_25 ?_
      refine j_lconst1 K dX4_addBreakdown_26 ?_
      refine j_ldc2 K 60 q1984 (by decide +kernel) dX4_addBreakdown_27 ?_
      refine z_calls K (s_in (by omega) (by omega) (by omega)) cS_X4_82 rfl rfl (by decide) (Nat.le_of_ble_eq_true rfl) (Nat.le_refl _) (Nat.le_refl _) dX4_addBreakdown_30 ?_
      refine j_if_ne (tgt := 40) K dX4_addBreakdown_33 rfl (b01r _) (fun c_33 => ?_) (fun c_33 => ?_)
      · rw [bI_ne] at c_33
        refine z_aload_n K dX4_addBreakdown_40 rfl rfl rfl ?_
        refine t_geta K fd_X4_9_0 rfl dX4_addBreakdown_41 ?_
        refine j_sipush K dX4_addBreakdown_44 (by decide +kernel) ?_
        refine z_iload_n K dX4_addBreakdown_47 rfl rfl ?_
        refine j_iadd K dX4_addBreakdown_48 ?_
        refine t_ild K 0 203 rfl rfl rfl (by omega) (by omega) rfl dX4_addBreakdown_49 ?_
        refine j_iconst K dX4_addBreakdown_50 ?_
        refine j_icmp_ne (tgt := 58) K dX4_addBreakdown_51 rfl (by omega) (by omega) (fun c_51 => ?_) (fun c_51 => ?_)
        · refine j_iconst K dX4_addBreakdown_58 ?_
          exact tail _ (by unfold tcAddBreak; simp [*]) (by omega) (by omega) _ ⟨rfl, rfl, rfl, rfl, trivial⟩
        · refine j_iconst K dX4_addBreakdown_54 ?_
          refine z_goto (tgt := 59) K dX4_addBreakdown_55 rfl ?_
          exact tail _ (by unfold tcAddBreak; simp [*]) (by omega) (by omega) _ ⟨rfl, rfl, rfl, rfl, trivial⟩
      · rw [bI_eq] at c_33
        refine j_iconst K dX4_addBreakdown_36 ?_
        refine z_goto (tgt := 59) K dX4_addBreakdown_37 rfl ?_
        exact tail _ (by unfold tcAddBreak; simp [*]) (by omega) (by omega) _ ⟨rfl, rfl, rfl, rfl, trivial⟩
  · rw [bI_eq] at c_5
    refine j_iconst K dX4_addBreakdown_8 ?_
    refine z_goto (tgt := 59) K dX4_addBreakdown_9 rfl ?_
    exact tail _ (by unfold tcAddBreak; simp [*]) (by omega) (by omega) _ ⟨rfl, rfl, rfl, rfl, trivial⟩
noncomputable def tcClear (m : Int) : Int := if 0 ≤ m ∧ m ≤ 3 then 0 else 1
theorem tw_clearBreakdowns {w : tW} {m : Int} (hm : -2147483648 ≤ m ∧ m ≤ 2147483647) :
    tMi yX4_clearBreakdowns cX4_clearBreakdowns 3 .int 4 [.int (iI m)] w (fun v9 w' => pub w (tcClear m) (w 0 (151 + m).toNat) (tset (tset w 3 0 0) 0 (151 + m).toNat 0) w' v9) := by
  refine zMet.of (by decide) (Nat.le_of_ble_eq_true rfl) fun X K => ?_
  have tail : ∀ t : Int, t = tcClear m → 0 ≤ t ∧ t ≤ 3 → (t = 0 → (0 ≤ m ∧ m ≤ 3)) → ∀ env, zsub env [(0, .ref 1000), (1, .int (iI m))] → zW X (zPi fun x h' => ∃ v9 w', x = iI v9 ∧ h' = tH w' ∧ pub w (tcClear m) (w 0 (151 + m).toNat) (tset (tset w 3 0 0) 0 (151 + m).toNat 0) w' v9) (tH w) 0 0 13 env [.int (iI t), .ref 1000] := by
    intro t ht hr h5 env he
    refine zW.cut he ?_
    refine t_puti K fd_X4_79_0 ⟨_, rfl, Or.inl rfl⟩ (by decide) rfl rfl dX4_clearBreakdowns_13 ?_
    refine z_aload_n K dX4_clearBreakdowns_16 rfl rfl rfl ?_
    refine t_geti K fd_X4_79_0 (by decide) rfl dX4_clearBreakdowns_17 ?_
    refine j_if_le (tgt := 25) K dX4_clearBreakdowns_20 rfl (by rw [tset_s]; omega) (fun c_20 => ?_) (fun c_20 => ?_)
    · rw [tset_s] at c_20
      obtain rfl : t = 0 := by omega
      have h7 := h5 rfl
      refine z_aload_n K dX4_clearBreakdowns_25 rfl rfl rfl ?_
      refine t_geta K fd_X4_9_0 rfl dX4_clearBreakdowns_26 ?_
      refine j_sipush K dX4_clearBreakdowns_29 (by decide +kernel) ?_
      refine z_iload_n K dX4_clearBreakdowns_32 rfl rfl ?_
      refine j_iadd K dX4_clearBreakdowns_33 ?_
      refine t_ild K 0 203 rfl rfl rfl (by omega) (by omega) rfl dX4_clearBreakdowns_34 ?_
      refine z_istore_n K dX4_clearBreakdowns_35 rfl (by decide) rfl ?_
      refine z_aload_n K dX4_clearBreakdowns_36 rfl rfl rfl ?_
      refine t_geta K fd_X4_9_0 rfl dX4_clearBreakdowns_37 ?_
      refine j_sipush K dX4_clearBreakdowns_40 (by decide +kernel) ?_
      refine z_iload_n K dX4_clearBreakdowns_43 rfl rfl ?_
      refine j_iadd K dX4_clearBreakdowns_44 ?_
      refine j_iconst K dX4_clearBreakdowns_45 ?_
      refine t_ist K 0 203 rfl rfl rfl (by omega) (by omega) rfl dX4_clearBreakdowns_46 ?_
      refine z_iload_n K dX4_clearBreakdowns_47 rfl rfl ?_
      exact t_iret K (Nat.le_refl _) (Nat.le_refl _) (⟨fun q => ⟨tset_f (by decide), rfl⟩, fun q => absurd ht.symm q⟩) dX4_clearBreakdowns_48
    · rw [tset_s] at c_20
      refine j_iconst K dX4_clearBreakdowns_23 ?_
      exact t_iret K (Nat.le_refl _) (Nat.le_refl _) (⟨fun q => by omega, fun q => by rw [ht]⟩) dX4_clearBreakdowns_24
  refine z_aload_n K dX4_clearBreakdowns_0 rfl rfl rfl ?_
  refine z_iload_n K dX4_clearBreakdowns_1 rfl rfl ?_
  refine z_calls K (s_isMachine (by omega)) cS_X4_122 rfl rfl (by decide) (Nat.le_of_ble_eq_true rfl) (Nat.le_refl _) (Nat.le_refl _) dX4_clearBreakdowns_2 ?_
  refine j_if_eq (tgt := 12) K dX4_clearBreakdowns_5 rfl (b01r _) (fun c_5 => ?_) (fun c_5 => ?_)
  · rw [bI_eq] at c_5
    refine j_iconst K dX4_clearBreakdowns_12 ?_
    exact tail _ (by unfold tcClear; simp [*]) (by omega) (by omega) _ ⟨rfl, rfl, trivial⟩
  · rw [bI_ne] at c_5
    refine j_iconst K dX4_clearBreakdowns_8 ?_
    refine z_goto (tgt := 13) K dX4_clearBreakdowns_9 rfl ?_
    exact tail _ (by unfold tcClear; simp [*]) (by omega) (by omega) _ ⟨rfl, rfl, trivial⟩
noncomputable def tcCount (a : Int) : Int := if 0 ≤ a ∧ a ≤ 1 then 0 else 1
theorem tw_count {w : tW} {m : Int} (hm : -2147483648 ≤ m ∧ m ≤ 2147483647) :
    tMi yX4_count cX4_count 2 .int 4 [.int (iI m)] w (fun v9 w' => pub w (tcCount m) (w 0 m.toNat) (tset w 3 0 0) w' v9) := by
  refine zMet.of (by decide) (Nat.le_of_ble_eq_true rfl) fun X K => ?_
  have tail : ∀ t : Int, t = tcCount m → 0 ≤ t ∧ t ≤ 3 → (t = 0 → (0 ≤ m ∧ m ≤ 1)) → ∀ env, zsub env [(0, .ref 1000), (1, .int (iI m))] → zW X (zPi fun x h' => ∃ v9 w', x = iI v9 ∧ h' = tH w' ∧ pub w (tcCount m) (w 0 m.toNat) (tset w 3 0 0) w' v9) (tH w) 0 0 16 env [.int (iI t), .ref 1000] := by
    intro t ht hr h5 env he
    refine zW.cut he ?_
    refine t_puti K fd_X4_79_0 ⟨_, rfl, Or.inl rfl⟩ (by decide) rfl rfl dX4_count_16 ?_
    refine z_aload_n K dX4_count_19 rfl rfl rfl ?_
    refine t_geti K fd_X4_79_0 (by decide) rfl dX4_count_20 ?_
    refine j_if_le (tgt := 30) K dX4_count_23 rfl (by rw [tset_s]; omega) (fun c_23 => ?_) (fun c_23 => ?_)
    · rw [tset_s] at c_23
      obtain rfl : t = 0 := by omega
      have h7 := h5 rfl
      refine z_aload_n K dX4_count_30 rfl rfl rfl ?_
      refine t_geta K fd_X4_9_0 rfl dX4_count_31 ?_
      refine z_iload_n K dX4_count_34 rfl rfl ?_
      refine t_ild K 0 203 rfl rfl rfl (by omega) (by omega) rfl dX4_count_35 ?_
      exact t_iret K (Nat.le_refl _) (Nat.le_refl _) (⟨fun q => by first | exact ⟨tset_f (by decide), rfl⟩ | omega, fun q => by first | exact absurd ht.symm q | rw [ht]⟩) dX4_count_36
    · rw [tset_s] at c_23
      refine j_iconst K dX4_count_26 ?_
      refine z_goto (tgt := 36) K dX4_count_27 rfl ?_
      exact t_iret K (Nat.le_refl _) (Nat.le_refl _) (⟨fun q => by first | exact ⟨tset_f (by decide), rfl⟩ | omega, fun q => by first | exact absurd ht.symm q | rw [ht]⟩) dX4_count_36
  refine z_aload_n K dX4_count_0 rfl rfl rfl ?_
  refine z_iload_n K dX4_count_1 rfl rfl ?_
  refine j_i2l K (by omega) dX4_count_2 ?_
  refine j_lconst0 K dX4_count_3 ?_
  refine j_lconst1 K dX4_count_4 ?_
  refine z_calls K (s_in (by omega) (by omega) (by omega)) cS_X4_82 rfl rfl (by decide) (Nat.le_of_ble_eq_true rfl) (Nat.le_refl _) (Nat.le_refl _) dX4_count_5 ?_
  refine j_if_eq (tgt := 15) K dX4_count_8 rfl (b01r _) (fun c_8 => ?_) (fun c_8 => ?_)
  · rw [bI_eq] at c_8
    refine j_iconst K dX4_count_15 ?_
    exact tail _ (by unfold tcCount; simp [*]) (by omega) (by omega) _ ⟨rfl, rfl, trivial⟩
  · rw [bI_ne] at c_8
    refine j_iconst K dX4_count_11 ?_
    refine z_goto (tgt := 16) K dX4_count_12 rfl ?_
    exact tail _ (by unfold tcCount; simp [*]) (by omega) (by omega) _ ⟨rfl, rfl, trivial⟩
/-- the place of an operation, with the orders whole -/
theorem tw_pos {w : tW} {k : Int} (hA : WfA (w 0)) (hO : WfO (w 0)) (hk : 0 ≤ k ∧ k < w 0 1) : tMi yX4_positionOf cX4_positionOf 4 .int 2 [.int (iI k)] w (fun v w' => v = sPos (w 0) k ∧ w' = w) := by
  obtain ⟨-, hK, -⟩ := hA
  obtain ⟨-, hm, -⟩ := hK.2 k hk.1 hk.2
  have h20 := hK.1
  obtain ⟨⟨hp0, hp1, hp2⟩, hpn⟩ := hO.pos hk hm
  obtain ⟨-, g2, -⟩ := hO (sMc (w 0) k) hm.1 hm.2
  exact tw_positionOf (m := sMc (w 0) k) (by omega) rfl (by omega) hp0 hp1 hp2 (fun q q0 q1 => by have := (g2 q q0 (by omega)).1; (try dsimp only [sRel, sDue, sWt, sLen, sSeq, sJb, sMc, sDu, sFa, sIx, sSu, sBn, sBf, sBl, sOn, sOr] at *); omega)
theorem sPos_r (s : Nat → Int) (k : Int) : 0 ≤ sPos s k ∧ sPos s k ≤ 4 := by unfold sPos; repeat' split <;> omega
noncomputable def tcProp (w : tW) (k a : Int) : Int := if ¬ (0 ≤ k ∧ k ≤ w 0 1 - 1) then 1 else if ¬ (0 ≤ a ∧ a ≤ 5) then 2 else 0
theorem tw_property {w : tW} {k a : Int} (hk : -2147483648 ≤ k ∧ k ≤ 2147483647) (ha : -2147483648 ≤ a ∧ a ≤ 2147483647) (hA : WfA (w 0)) (hO : WfO (w 0)) :
    tMi yX4_property cX4_property 3 .int 4 [.int (iI k), .int (iI a)] w (fun v9 w' => pub w (tcProp w k a) (if a = 5 then sPos (w 0) k else w 0 (42 + 20 * a + k).toNat) (tset w 3 0 0) w' v9) := by
  refine zMet.of (by decide) (Nat.le_of_ble_eq_true rfl) fun X K => ?_
  have h20 := hA.2.1.1
  have tail : ∀ t : Int, t = tcProp w k a → 0 ≤ t ∧ t ≤ 3 → (t = 0 → (0 ≤ k ∧ k < w 0 1) ∧ 0 ≤ a ∧ a ≤ 5) → ∀ env, zsub env [(0, .ref 1000), (1, .int (iI k)), (2, .int (iI a))] → zW X (zPi fun x h' => ∃ v9 w', x = iI v9 ∧ h' = tH w' ∧ pub w (tcProp w k a) (if a = 5 then sPos (w 0) k else w 0 (42 + 20 * a + k).toNat) (tset w 3 0 0) w' v9) (tH w) 0 0 30 env [.int (iI t), .ref 1000] := by
    intro t ht hr h5 env he
    refine zW.cut he ?_
    refine t_puti K fd_X4_79_0 ⟨_, rfl, Or.inl rfl⟩ (by decide) rfl rfl dX4_property_30 ?_
    refine z_aload_n K dX4_property_33 rfl rfl rfl ?_
    refine t_geti K fd_X4_79_0 (by decide) rfl dX4_property_34 ?_
    refine j_if_le (tgt := 42) K dX4_property_37 rfl (by rw [tset_s]; omega) (fun c_37 => ?_) (fun c_37 => ?_)
    · rw [tset_s] at c_37
      obtain rfl : t = 0 := by omega
      have h7 := h5 rfl
      refine z_iload_n K dX4_property_42 rfl rfl ?_
      refine j_iconst K dX4_property_43 ?_
      refine j_icmp_ne (tgt := 55) K dX4_property_44 rfl (by omega) (by omega) (fun c_44 => ?_) (fun c_44 => ?_)
      · refine z_aload_n K dX4_property_55 rfl rfl rfl ?_
        refine t_geta K fd_X4_9_0 rfl dX4_property_56 ?_
        refine j_bipush K dX4_property_59 (by decide +kernel) ?_
        refine j_bipush K dX4_property_61 (by decide +kernel) ?_
        refine z_iload_n K dX4_property_63 rfl rfl ?_
        refine j_imul K dX4_property_64 ?_
        refine j_iadd K dX4_property_65 ?_
        refine z_iload_n K dX4_property_66 rfl rfl ?_
        refine j_iadd K dX4_property_67 ?_
        refine t_ild K 0 203 rfl rfl rfl (by omega) (by omega) rfl dX4_property_68 ?_
        exact t_iret K (Nat.le_refl _) (Nat.le_refl _) (⟨fun q => ⟨by first | (rw [if_pos c_44]; rfl) | (rw [if_neg c_44]; exact tset_f (by decide)), rfl⟩, fun q => absurd ht.symm q⟩) dX4_property_69
      · refine z_aload_n K dX4_property_47 rfl rfl rfl ?_
        refine z_iload_n K dX4_property_48 rfl rfl ?_
        refine t_callp K (tw_pos (w := tset w 3 0 0) hA hO h7.1) cV_X4_147_X4 rfl rfl (by decide) (Nat.le_of_ble_eq_true rfl) (Nat.le_refl _) (Nat.le_refl _) dX4_property_49 ?_
        refine z_goto (tgt := 69) K dX4_property_52 rfl ?_
        exact t_iret K (Nat.le_refl _) (Nat.le_refl _) (⟨fun q => ⟨by first | (rw [if_pos c_44]; rfl) | (rw [if_neg c_44]; exact tset_f (by decide)), rfl⟩, fun q => absurd ht.symm q⟩) dX4_property_69
    · rw [tset_s] at c_37
      refine j_iconst K dX4_property_40 ?_
      exact t_iret K (Nat.le_refl _) (Nat.le_refl _) (⟨fun q => by omega, fun q => by rw [ht]⟩) dX4_property_41
  refine z_aload_n K dX4_property_0 rfl rfl rfl ?_
  refine z_aload_n K dX4_property_1 rfl rfl rfl ?_
  refine z_iload_n K dX4_property_2 rfl rfl ?_
  refine t_callp K (tw_isOperation (by omega) (by omega)) cV_X4_135_X4 rfl rfl (by decide) (Nat.le_of_ble_eq_true rfl) (Nat.le_refl _) (Nat.le_refl _) dX4_property_3 ?_
  refine j_if_ne (tgt := 13) K dX4_property_6 rfl (b01r _) (fun c_6 => ?_) (fun c_6 => ?_)
  · rw [bI_ne] at c_6
    refine z_iload_n K dX4_property_13 rfl rfl ?_
    refine j_i2l K (by omega) dX4_property_14 ?_
    refine j_lconst0 K dX4_property_15 ?_
    refine j_ldc2 K 5 q1997 (by decide +kernel) dX4_property_16 ?_
    refine z_calls K (s_in (by omega) (by omega) (by omega)) cS_X4_82 rfl rfl (by decide) (Nat.le_of_ble_eq_true rfl) (Nat.le_refl _) (Nat.le_refl _) dX4_property_19 ?_
    refine j_if_ne (tgt := 29) K dX4_property_22 rfl (b01r _) (fun c_22 => ?_) (fun c_22 => ?_)
    · rw [bI_ne] at c_22
      refine j_iconst K dX4_property_29 ?_
      exact tail _ (by unfold tcProp; simp [*]) (by omega) (by omega) _ ⟨rfl, rfl, rfl, trivial⟩
    · rw [bI_eq] at c_22
      refine j_iconst K dX4_property_25 ?_
      refine z_goto (tgt := 30) K dX4_property_26 rfl ?_
      exact tail _ (by unfold tcProp; simp [*]) (by omega) (by omega) _ ⟨rfl, rfl, rfl, trivial⟩
  · rw [bI_eq] at c_6
    refine j_iconst K dX4_property_9 ?_
    refine z_goto (tgt := 30) K dX4_property_10 rfl ?_
    exact tail _ (by unfold tcProp; simp [*]) (by omega) (by omega) _ ⟨rfl, rfl, rfl, trivial⟩
noncomputable def tcOrder (w : tW) (m p : Int) : Int := if ¬ (0 ≤ m ∧ m ≤ 3) then 1 else if ¬ (0 ≤ p ∧ p ≤ w 0 (179 + m).toNat - 1) then 2 else 0
theorem tw_order {w : tW} {m p : Int} (hm : -2147483648 ≤ m ∧ m ≤ 2147483647) (hp : -2147483648 ≤ p ∧ p ≤ 2147483647) (hO : WfO (w 0)) :
    tMi yX4_order cX4_order 3 .int 4 [.int (iI m), .int (iI p)] w (fun v9 w' => pub w (tcOrder w m p) (w 0 (183 + 5 * m + p).toNat) (tset w 3 0 0) w' v9) := by
  refine zMet.of (by decide) (Nat.le_of_ble_eq_true rfl) fun X K => ?_
  have tail : ∀ t : Int, t = tcOrder w m p → 0 ≤ t ∧ t ≤ 3 → (t = 0 → (0 ≤ m ∧ m ≤ 3) ∧ 0 ≤ p ∧ p ≤ w 0 (179 + m).toNat - 1) → ∀ env, zsub env [(0, .ref 1000), (1, .int (iI m)), (2, .int (iI p))] → zW X (zPi fun x h' => ∃ v9 w', x = iI v9 ∧ h' = tH w' ∧ pub w (tcOrder w m p) (w 0 (183 + 5 * m + p).toNat) (tset w 3 0 0) w' v9) (tH w) 0 0 39 env [.int (iI t), .ref 1000] := by
    intro t ht hr h5 env he
    refine zW.cut he ?_
    refine t_puti K fd_X4_79_0 ⟨_, rfl, Or.inl rfl⟩ (by decide) rfl rfl dX4_order_39 ?_
    refine z_aload_n K dX4_order_42 rfl rfl rfl ?_
    refine t_geti K fd_X4_79_0 (by decide) rfl dX4_order_43 ?_
    refine j_if_le (tgt := 53) K dX4_order_46 rfl (by rw [tset_s]; omega) (fun c_46 => ?_) (fun c_46 => ?_)
    · rw [tset_s] at c_46
      obtain rfl : t = 0 := by omega
      have h7 := h5 rfl
      have h8 := (hO m h7.1.1 h7.1.2).1
      (try dsimp only [sRel, sDue, sWt, sLen, sSeq, sJb, sMc, sDu, sFa, sIx, sSu, sBn, sBf, sBl, sOn, sOr] at *)
      refine z_aload_n K dX4_order_53 rfl rfl rfl ?_
      refine z_iload_n K dX4_order_54 rfl rfl ?_
      refine z_iload_n K dX4_order_55 rfl rfl ?_
      refine t_callp K (tw_ordered (by omega) (by omega)) cV_X4_142_X4 rfl rfl (by decide) (Nat.le_of_ble_eq_true rfl) (Nat.le_refl _) (Nat.le_refl _) dX4_order_56 ?_
      exact t_iret K (Nat.le_refl _) (Nat.le_refl _) (⟨fun q => by first | exact ⟨tset_f (by decide), rfl⟩ | omega, fun q => by first | exact absurd ht.symm q | rw [ht]⟩) dX4_order_59
    · rw [tset_s] at c_46
      refine j_iconst K dX4_order_49 ?_
      refine z_goto (tgt := 59) K dX4_order_50 rfl ?_
      exact t_iret K (Nat.le_refl _) (Nat.le_refl _) (⟨fun q => by first | exact ⟨tset_f (by decide), rfl⟩ | omega, fun q => by first | exact absurd ht.symm q | rw [ht]⟩) dX4_order_59
  refine z_aload_n K dX4_order_0 rfl rfl rfl ?_
  refine z_iload_n K dX4_order_1 rfl rfl ?_
  refine z_calls K (s_isMachine (by omega)) cS_X4_122 rfl rfl (by decide) (Nat.le_of_ble_eq_true rfl) (Nat.le_refl _) (Nat.le_refl _) dX4_order_2 ?_
  refine j_if_ne (tgt := 12) K dX4_order_5 rfl (b01r _) (fun c_5 => ?_) (fun c_5 => ?_)
  · rw [bI_ne] at c_5
    have h8 := (hO m c_5.1 c_5.2).1
    (try dsimp only [sRel, sDue, sWt, sLen, sSeq, sJb, sMc, sDu, sFa, sIx, sSu, sBn, sBf, sBl, sOn, sOr] at *)
    refine z_iload_n K dX4_order_12 rfl rfl ?_
    refine j_i2l K (by omega) dX4_order_13 ?_
    refine j_lconst0 K dX4_order_14 ?_
    refine z_aload_n K dX4_order_15 rfl rfl rfl ?_
    refine t_geta K fd_X4_9_0 rfl dX4_order_16 ?_
    refine j_sipush K dX4_order_19 (by decide +kernel) ?_
    refine z_iload_n K dX4_order_22 rfl rfl ?_
    refine j_iadd K dX4_order_23 ?_
    refine t_ild K 0 203 rfl rfl rfl (by omega) (by omega) rfl dX4_order_24 ?_
    refine j_iconst K dX4_order_25 ?_
    refine j_isub K dX4_order_26 ?_
    refine j_i2l K (by omega) dX4_order_27 ?_
    refine z_calls K (s_in (by omega) (by omega) (by omega)) cS_X4_82 rfl rfl (by decide) (Nat.le_of_ble_eq_true rfl) (Nat.le_refl _) (Nat.le_refl _) dX4_order_28 ?_
    refine j_if_ne (tgt := 38) K dX4_order_31 rfl (b01r _) (fun c_31 => ?_) (fun c_31 => ?_)
    · rw [bI_ne] at c_31
      refine j_iconst K dX4_order_38 ?_
      exact tail _ (by unfold tcOrder; simp [*]) (by omega) (by omega) _ ⟨rfl, rfl, rfl, trivial⟩
    · rw [bI_eq] at c_31
      refine j_iconst K dX4_order_34 ?_
      refine z_goto (tgt := 39) K dX4_order_35 rfl ?_
      exact tail _ (by unfold tcOrder; simp [*]) (by omega) (by omega) _ ⟨rfl, rfl, rfl, trivial⟩
  · rw [bI_eq] at c_5
    refine j_iconst K dX4_order_8 ?_
    refine z_goto (tgt := 39) K dX4_order_9 rfl ?_
    exact tail _ (by unfold tcOrder; simp [*]) (by omega) (by omega) _ ⟨rfl, rfl, rfl, trivial⟩
theorem tw_endOf {w : tW} {k : Int} (hk : 0 ≤ k ∧ k < 20) : tMi yX4_endOf cX4_endOf 2 .int 1 [.int (iI k)] w (fun v w' => v = w 12 k.toNat + w 0 (82 + k).toNat ∧ w' = w) := by
  refine zMet.of (by decide) (Nat.le_of_ble_eq_true rfl) fun X K => ?_
  refine z_aload_n K dX4_endOf_0 rfl rfl rfl ?_
  refine t_geta K fd_X4_29_0 rfl dX4_endOf_1 ?_
  refine z_iload_n K dX4_endOf_4 rfl rfl ?_
  refine t_ild K 12 20 rfl rfl rfl (by omega) (by omega) rfl dX4_endOf_5 ?_
  refine z_aload_n K dX4_endOf_6 rfl rfl rfl ?_
  refine t_geta K fd_X4_9_0 rfl dX4_endOf_7 ?_
  refine j_bipush K dX4_endOf_10 (by decide +kernel) ?_
  refine z_iload_n K dX4_endOf_12 rfl rfl ?_
  refine j_iadd K dX4_endOf_13 ?_
  refine t_ild K 0 203 rfl rfl rfl (by omega) (by omega) rfl dX4_endOf_14 ?_
  refine j_iadd K dX4_endOf_15 ?_
  exact t_iret K (Nat.le_refl _) (Nat.le_refl _) (⟨rfl, rfl⟩) dX4_endOf_16
theorem tw_before {w : tW} {k : Int} (hA : WfA (w 0)) (hk : 0 ≤ k ∧ k < w 0 1) : tMi yX4_before cX4_before 3 .int 2 [.int (iI k)] w (fun v w' => v = sBef (w 0) k ∧ w' = w) := by
  obtain ⟨hJ, hK, -⟩ := hA
  obtain ⟨a1, a2, a3, a4, a5, a6⟩ := hK.2 k hk.1 hk.2
  have h20 := hK.1
  have h5 := hJ.1
  have h4 := (hJ.2 _ a1.1 a1.2).2.2.2
  (try dsimp only [sRel, sDue, sWt, sLen, sSeq, sJb, sMc, sDu, sFa, sIx, sSu, sBn, sBf, sBl, sOn, sOr] at *)
  refine zMet.of (by decide) (Nat.le_of_ble_eq_true rfl) fun X K => ?_
  refine z_aload_n K dX4_before_0 rfl rfl rfl ?_
  refine t_geta K fd_X4_9_0 rfl dX4_before_1 ?_
  refine j_bipush K dX4_before_4 (by decide +kernel) ?_
  refine z_iload_n K dX4_before_6 rfl rfl ?_
  refine j_iadd K dX4_before_7 ?_
  refine t_ild K 0 203 rfl rfl rfl (by omega) (by omega) rfl dX4_before_8 ?_
  refine z_istore_n K dX4_before_9 rfl (by decide) rfl ?_
  refine z_iload_n K dX4_before_10 rfl rfl ?_
  refine j_if_ne (tgt := 18) K dX4_before_11 rfl (by omega) (fun c_11 => ?_) (fun c_11 => ?_)
  · refine z_aload_n K dX4_before_18 rfl rfl rfl ?_
    refine z_aload_n K dX4_before_19 rfl rfl rfl ?_
    refine t_geta K fd_X4_9_0 rfl dX4_before_20 ?_
    refine j_bipush K dX4_before_23 (by decide +kernel) ?_
    refine z_iload_n K dX4_before_25 rfl rfl ?_
    refine j_iadd K dX4_before_26 ?_
    refine t_ild K 0 203 rfl rfl rfl (by omega) (by omega) rfl dX4_before_27 ?_
    refine z_iload_n K dX4_before_28 rfl rfl ?_
    refine j_iconst K dX4_before_29 ?_
    refine j_isub K dX4_before_30 ?_
    refine t_callp K (tw_sequence (by omega) (by omega)) cV_X4_110_X4 rfl rfl (by decide) (Nat.le_of_ble_eq_true rfl) (Nat.le_refl _) (Nat.le_refl _) dX4_before_31 ?_
    exact t_iret K (Nat.le_refl _) (Nat.le_refl _) (⟨by unfold sBef; first | rw [if_pos c_11] | rw [if_neg c_11], rfl⟩) dX4_before_34
  · refine j_iconst K dX4_before_14 ?_
    refine z_goto (tgt := 34) K dX4_before_15 rfl ?_
    exact t_iret K (Nat.le_refl _) (Nat.le_refl _) (⟨by unfold sBef; first | rw [if_pos c_11] | rw [if_neg c_11], rfl⟩) dX4_before_34
theorem tw_ahead {w : tW} {k : Int} (hA : WfA (w 0)) (hO : WfO (w 0)) (ho : ∀ m : Nat, m < 4 → 0 ≤ w 13 m ∧ w 13 m ≤ 1) (hk : 0 ≤ k ∧ k < w 0 1) : tMi yX4_ahead cX4_ahead 4 .int 3 [.int (iI k)] w (fun v w' => v = sAh (w 0) (w 13) k ∧ w' = w) := by
  obtain ⟨-, hm, -⟩ := hA.2.1.2 k hk.1 hk.2
  have h20 := hA.2.1.1
  have hop := ho (sMc (w 0) k).toNat (by omega)
  have hps := sPos_r (w 0) k
  (try dsimp only [sRel, sDue, sWt, sLen, sSeq, sJb, sMc, sDu, sFa, sIx, sSu, sBn, sBf, sBl, sOn, sOr] at *)
  refine zMet.of (by decide) (Nat.le_of_ble_eq_true rfl) fun X K => ?_
  refine z_aload_n K dX4_ahead_0 rfl rfl rfl ?_
  refine t_geta K fd_X4_9_0 rfl dX4_ahead_1 ?_
  refine j_bipush K dX4_ahead_4 (by decide +kernel) ?_
  refine z_iload_n K dX4_ahead_6 rfl rfl ?_
  refine j_iadd K dX4_ahead_7 ?_
  refine t_ild K 0 203 rfl rfl rfl (by omega) (by omega) rfl dX4_ahead_8 ?_
  refine z_istore_n K dX4_ahead_9 rfl (by decide) rfl ?_
  refine z_aload_n K dX4_ahead_10 rfl rfl rfl ?_
  refine t_geta K fd_X4_32_0 rfl dX4_ahead_11 ?_
  refine z_iload_n K dX4_ahead_14 rfl rfl ?_
  refine t_zld K 13 4 rfl rfl rfl (by omega) (by omega) rfl dX4_ahead_15 ?_
  refine j_if_eq (tgt := 23) K dX4_ahead_16 rfl (by omega) (fun c_16 => ?_) (fun c_16 => ?_)
  · refine z_aload_n K dX4_ahead_23 rfl rfl rfl ?_
    refine z_iload_n K dX4_ahead_24 rfl rfl ?_
    refine t_callp K (tw_pos hA hO (by omega)) cV_X4_147_X4 rfl rfl (by decide) (Nat.le_of_ble_eq_true rfl) (Nat.le_refl _) (Nat.le_refl _) dX4_ahead_25 ?_
    refine z_istore_n K dX4_ahead_28 rfl (by decide) rfl ?_
    refine z_iload_n K dX4_ahead_29 rfl rfl ?_
    refine j_if_ne (tgt := 37) K dX4_ahead_30 rfl (by omega) (fun c_30 => ?_) (fun c_30 => ?_)
    · try (exfalso; omega)
      all_goals
        refine z_aload_n K dX4_ahead_37 rfl rfl rfl ?_
        refine z_iload_n K dX4_ahead_38 rfl rfl ?_
        refine z_iload_n K dX4_ahead_39 rfl rfl ?_
        refine j_iconst K dX4_ahead_40 ?_
        refine j_isub K dX4_ahead_41 ?_
        refine t_callp K (tw_ordered (by omega) (by omega)) cV_X4_142_X4 rfl rfl (by decide) (Nat.le_of_ble_eq_true rfl) (Nat.le_refl _) (Nat.le_refl _) dX4_ahead_42 ?_
        exact t_iret K (Nat.le_refl _) (Nat.le_refl _) (⟨by unfold sAh; (try dsimp only [sRel, sDue, sWt, sLen, sSeq, sJb, sMc, sDu, sFa, sIx, sSu, sBn, sBf, sBl, sOn, sOr] at *); first | rw [if_pos (by omega)] | rw [if_neg (by omega), if_pos (by omega)] | rw [if_neg (by omega), if_neg (by omega)], rfl⟩) dX4_ahead_45
    · try (exfalso; omega)
      all_goals
        refine j_iconst K dX4_ahead_33 ?_
        refine z_goto (tgt := 45) K dX4_ahead_34 rfl ?_
        exact t_iret K (Nat.le_refl _) (Nat.le_refl _) (⟨by unfold sAh; (try dsimp only [sRel, sDue, sWt, sLen, sSeq, sJb, sMc, sDu, sFa, sIx, sSu, sBn, sBf, sBl, sOn, sOr] at *); first | rw [if_pos (by omega)] | rw [if_neg (by omega), if_pos (by omega)] | rw [if_neg (by omega), if_neg (by omega)], rfl⟩) dX4_ahead_45
  · refine j_iconst K dX4_ahead_19 ?_
    refine z_goto (tgt := 28) K dX4_ahead_20 rfl ?_
    refine z_istore_n K dX4_ahead_28 rfl (by decide) rfl ?_
    refine z_iload_n K dX4_ahead_29 rfl rfl ?_
    refine j_if_ne (tgt := 37) K dX4_ahead_30 rfl (by omega) (fun c_30 => ?_) (fun c_30 => ?_)
    · try (exfalso; omega)
      all_goals
        refine z_aload_n K dX4_ahead_37 rfl rfl rfl ?_
        refine z_iload_n K dX4_ahead_38 rfl rfl ?_
        refine z_iload_n K dX4_ahead_39 rfl rfl ?_
        refine j_iconst K dX4_ahead_40 ?_
        refine j_isub K dX4_ahead_41 ?_
        refine t_callp K (tw_ordered (by omega) (by omega)) cV_X4_142_X4 rfl rfl (by decide) (Nat.le_of_ble_eq_true rfl) (Nat.le_refl _) (Nat.le_refl _) dX4_ahead_42 ?_
        exact t_iret K (Nat.le_refl _) (Nat.le_refl _) (⟨by unfold sAh; (try dsimp only [sRel, sDue, sWt, sLen, sSeq, sJb, sMc, sDu, sFa, sIx, sSu, sBn, sBf, sBl, sOn, sOr] at *); first | rw [if_pos (by omega)] | rw [if_neg (by omega), if_pos (by omega)] | rw [if_neg (by omega), if_neg (by omega)], rfl⟩) dX4_ahead_45
    · try (exfalso; omega)
      all_goals
        refine j_iconst K dX4_ahead_33 ?_
        refine z_goto (tgt := 45) K dX4_ahead_34 rfl ?_
        exact t_iret K (Nat.le_refl _) (Nat.le_refl _) (⟨by unfold sAh; (try dsimp only [sRel, sDue, sWt, sLen, sSeq, sJb, sMc, sDu, sFa, sIx, sSu, sBn, sBf, sBl, sOn, sOr] at *); first | rw [if_pos (by omega)] | rw [if_neg (by omega), if_pos (by omega)] | rw [if_neg (by omega), if_neg (by omega)], rfl⟩) dX4_ahead_45
theorem tw_isKnown {w : tW} {k : Int} (hk : k = -1 ∨ (0 ≤ k ∧ k < 20)) (hs : 0 ≤ k → -1 ≤ w 12 k.toNat ∧ w 12 k.toNat ≤ 100000) : tMi yX4_isKnown cX4_isKnown 2 .boolean 1 [.int (iI k)] w (fun v w' => v = bI (k = -1 ∨ 0 ≤ w 12 k.toNat) ∧ w' = w) := by
  refine zMet.of (by decide) (Nat.le_of_ble_eq_true rfl) fun X K => ?_
  refine z_iload_n K dX4_isKnown_0 rfl rfl ?_
  refine j_iconst K dX4_isKnown_1 ?_
  refine j_icmp_eq (tgt := 14) K dX4_isKnown_2 rfl (by omega) (by omega) (fun c_2 => ?_) (fun c_2 => ?_)
  · refine j_iconst K dX4_isKnown_14 ?_
    refine z_goto (tgt := 19) K dX4_isKnown_15 rfl ?_
    exact t_zret K (by omega) (Nat.le_refl _) (Nat.le_refl _) (⟨by unfold bI; first | rw [if_pos (by omega)] | rw [if_neg (by omega)], rfl⟩) dX4_isKnown_19
  · have h9 := hs (by omega)
    refine z_aload_n K dX4_isKnown_5 rfl rfl rfl ?_
    refine t_geta K fd_X4_29_0 rfl dX4_isKnown_6 ?_
    refine z_iload_n K dX4_isKnown_9 rfl rfl ?_
    refine t_ild K 12 20 rfl rfl rfl (by omega) (by omega) rfl dX4_isKnown_10 ?_
    refine j_if_lt (tgt := 18) K dX4_isKnown_11 rfl (by omega) (fun c_11 => ?_) (fun c_11 => ?_)
    · refine j_iconst K dX4_isKnown_18 ?_
      exact t_zret K (by omega) (Nat.le_refl _) (Nat.le_refl _) (⟨by unfold bI; first | rw [if_pos (by omega)] | rw [if_neg (by omega)], rfl⟩) dX4_isKnown_19
    · refine j_iconst K dX4_isKnown_14 ?_
      refine z_goto (tgt := 19) K dX4_isKnown_15 rfl ?_
      exact t_zret K (by omega) (Nat.le_refl _) (Nat.le_refl _) (⟨by unfold bI; first | rw [if_pos (by omega)] | rw [if_neg (by omega)], rfl⟩) dX4_isKnown_19

