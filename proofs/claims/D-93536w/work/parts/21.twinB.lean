/-! ===== the reference: changes of what there is, simple questions ===== -/
/-- createOperation -/
def wOp (w : tW) (j m u f : Int) : tW := tset (tset (tset (tset (tset (tset (tset (tset (tset (tset w 0 (42 + w 0 1).toNat j) 0 (62 + w 0 1).toNat m) 0 (82 + w 0 1).toNat u) 0 (102 + w 0 1).toNat f) 0 (122 + w 0 1).toNat (w 0 (17 + j).toNat)) 0 (22 + 4 * j + w 0 (17 + j).toNat).toNat (w 0 1)) 0 (17 + j).toNat (w 0 (17 + j).toNat + 1)) 0 (183 + 5 * m + w 0 (179 + m).toNat).toNat (w 0 1)) 0 (179 + m).toNat (w 0 (179 + m).toNat + 1)) 0 1 (w 0 1 + 1)
theorem tw_createOperation {w : tW} {j m u f : Int} (hj : 0 ≤ j ∧ j < 5) (hm : 0 ≤ m ∧ m < 4) (h1 : 0 ≤ w 0 1 ∧ w 0 1 < 20) (hl : 0 ≤ w 0 (17 + j).toNat ∧ w 0 (17 + j).toNat < 4) (ho : 0 ≤ w 0 (179 + m).toNat ∧ w 0 (179 + m).toNat < 5) : tMi yX4_createOperation cX4_createOperation 6 .int 2 [.int (iI j), .int (iI m), .int (iI u), .int (iI f)] w (fun v w' => v = w 0 1 ∧ w' = wOp w j m u f) := by
  refine zMet.of (by decide) (Nat.le_of_ble_eq_true rfl) fun X K => ?_
  have e0 : (1 : Int).toNat = 1 := rfl
  refine z_aload_n K dX4_createOperation_0 rfl rfl rfl ?_
  refine t_geta K fd_X4_9_0 rfl dX4_createOperation_1 ?_
  refine j_iconst K dX4_createOperation_4 ?_
  refine t_ild K 0 203 rfl rfl rfl (by omega) (by omega) rfl dX4_createOperation_5 ?_
  rw [e0]
  refine z_istore K dX4_createOperation_6 (by decide) rfl ?_
  refine z_aload_n K dX4_createOperation_8 rfl rfl rfl ?_
  refine t_geta K fd_X4_9_0 rfl dX4_createOperation_9 ?_
  refine j_bipush K dX4_createOperation_12 (by decide +kernel) ?_
  refine z_iload K dX4_createOperation_14 rfl ?_
  refine j_iadd K dX4_createOperation_16 ?_
  refine z_iload_n K dX4_createOperation_17 rfl rfl ?_
  refine t_ist K 0 203 rfl rfl rfl (by omega) (by omega) rfl dX4_createOperation_18 ?_
  refine z_aload_n K dX4_createOperation_19 rfl rfl rfl ?_
  refine t_geta K fd_X4_9_0 rfl dX4_createOperation_20 ?_
  refine j_bipush K dX4_createOperation_23 (by decide +kernel) ?_
  refine z_iload K dX4_createOperation_25 rfl ?_
  refine j_iadd K dX4_createOperation_27 ?_
  refine z_iload_n K dX4_createOperation_28 rfl rfl ?_
  refine t_ist K 0 203 rfl rfl rfl (by omega) (by omega) rfl dX4_createOperation_29 ?_
  refine z_aload_n K dX4_createOperation_30 rfl rfl rfl ?_
  refine t_geta K fd_X4_9_0 rfl dX4_createOperation_31 ?_
  refine j_bipush K dX4_createOperation_34 (by decide +kernel) ?_
  refine z_iload K dX4_createOperation_36 rfl ?_
  refine j_iadd K dX4_createOperation_38 ?_
  refine z_iload_n K dX4_createOperation_39 rfl rfl ?_
  refine t_ist K 0 203 rfl rfl rfl (by omega) (by omega) rfl dX4_createOperation_40 ?_
  refine z_aload_n K dX4_createOperation_41 rfl rfl rfl ?_
  refine t_geta K fd_X4_9_0 rfl dX4_createOperation_42 ?_
  refine j_bipush K dX4_createOperation_45 (by decide +kernel) ?_
  refine z_iload K dX4_createOperation_47 rfl ?_
  refine j_iadd K dX4_createOperation_49 ?_
  refine z_iload K dX4_createOperation_50 rfl ?_
  refine t_ist K 0 203 rfl rfl rfl (by omega) (by omega) rfl dX4_createOperation_52 ?_
  refine z_aload_n K dX4_createOperation_53 rfl rfl rfl ?_
  refine t_geta K fd_X4_9_0 rfl dX4_createOperation_54 ?_
  refine j_bipush K dX4_createOperation_57 (by decide +kernel) ?_
  refine z_iload K dX4_createOperation_59 rfl ?_
  refine j_iadd K dX4_createOperation_61 ?_
  refine z_aload_n K dX4_createOperation_62 rfl rfl rfl ?_
  refine t_geta K fd_X4_9_0 rfl dX4_createOperation_63 ?_
  refine j_bipush K dX4_createOperation_66 (by decide +kernel) ?_
  refine z_iload_n K dX4_createOperation_68 rfl rfl ?_
  refine j_iadd K dX4_createOperation_69 ?_
  refine t_ild K 0 203 rfl rfl rfl (by omega) (by omega) rfl dX4_createOperation_70 ?_
  rw [tset_i (i := (102 + w 0 1).toNat) (by omega), tset_i (i := (82 + w 0 1).toNat) (by omega), tset_i (i := (62 + w 0 1).toNat) (by omega), tset_i (i := (42 + w 0 1).toNat) (by omega)]
  refine t_ist K 0 203 rfl rfl rfl (by omega) (by omega) rfl dX4_createOperation_71 ?_
  refine z_aload_n K dX4_createOperation_72 rfl rfl rfl ?_
  refine t_geta K fd_X4_9_0 rfl dX4_createOperation_73 ?_
  refine j_bipush K dX4_createOperation_76 (by decide +kernel) ?_
  refine j_iconst K dX4_createOperation_78 ?_
  refine z_iload_n K dX4_createOperation_79 rfl rfl ?_
  refine j_imul K dX4_createOperation_80 ?_
  refine j_iadd K dX4_createOperation_81 ?_
  refine z_aload_n K dX4_createOperation_82 rfl rfl rfl ?_
  refine t_geta K fd_X4_9_0 rfl dX4_createOperation_83 ?_
  refine j_bipush K dX4_createOperation_86 (by decide +kernel) ?_
  refine z_iload_n K dX4_createOperation_88 rfl rfl ?_
  refine j_iadd K dX4_createOperation_89 ?_
  refine t_ild K 0 203 rfl rfl rfl (by omega) (by omega) rfl dX4_createOperation_90 ?_
  rw [tset_i (i := (122 + w 0 1).toNat) (by omega), tset_i (i := (102 + w 0 1).toNat) (by omega), tset_i (i := (82 + w 0 1).toNat) (by omega), tset_i (i := (62 + w 0 1).toNat) (by omega), tset_i (i := (42 + w 0 1).toNat) (by omega)]
  refine j_iadd K dX4_createOperation_91 ?_
  refine z_iload K dX4_createOperation_92 rfl ?_
  refine t_ist K 0 203 rfl rfl rfl (by omega) (by omega) rfl dX4_createOperation_94 ?_
  refine z_aload_n K dX4_createOperation_95 rfl rfl rfl ?_
  refine t_geta K fd_X4_9_0 rfl dX4_createOperation_96 ?_
  refine j_bipush K dX4_createOperation_99 (by decide +kernel) ?_
  refine z_iload_n K dX4_createOperation_101 rfl rfl ?_
  refine j_iadd K dX4_createOperation_102 ?_
  refine z_dup2 K dX4_createOperation_103 rfl rfl ?_
  refine t_ild K 0 203 rfl rfl rfl (by omega) (by omega) rfl dX4_createOperation_104 ?_
  rw [tset_i (j := (17 + j).toNat) (i := (22 + 4 * j + w 0 (17 + j).toNat).toNat) (by omega), tset_i (j := (17 + j).toNat) (i := (122 + w 0 1).toNat) (by omega), tset_i (j := (17 + j).toNat) (i := (102 + w 0 1).toNat) (by omega), tset_i (j := (17 + j).toNat) (i := (82 + w 0 1).toNat) (by omega), tset_i (j := (17 + j).toNat) (i := (62 + w 0 1).toNat) (by omega), tset_i (j := (17 + j).toNat) (i := (42 + w 0 1).toNat) (by omega)]
  refine j_iconst K dX4_createOperation_105 ?_
  refine j_iadd K dX4_createOperation_106 ?_
  refine t_ist K 0 203 rfl rfl rfl (by omega) (by omega) rfl dX4_createOperation_107 ?_
  refine z_aload_n K dX4_createOperation_108 rfl rfl rfl ?_
  refine z_iload_n K dX4_createOperation_109 rfl rfl ?_
  refine z_aload_n K dX4_createOperation_110 rfl rfl rfl ?_
  refine t_geta K fd_X4_9_0 rfl dX4_createOperation_111 ?_
  refine j_sipush K dX4_createOperation_114 (by decide +kernel) ?_
  refine z_iload_n K dX4_createOperation_117 rfl rfl ?_
  refine j_iadd K dX4_createOperation_118 ?_
  refine t_ild K 0 203 rfl rfl rfl (by omega) (by omega) rfl dX4_createOperation_119 ?_
  rw [tset_i (j := (179 + m).toNat) (i := (17 + j).toNat) (by omega), tset_i (j := (179 + m).toNat) (i := (22 + 4 * j + w 0 (17 + j).toNat).toNat) (by omega), tset_i (j := (179 + m).toNat) (i := (122 + w 0 1).toNat) (by omega), tset_i (j := (179 + m).toNat) (i := (102 + w 0 1).toNat) (by omega), tset_i (j := (179 + m).toNat) (i := (82 + w 0 1).toNat) (by omega), tset_i (j := (179 + m).toNat) (i := (62 + w 0 1).toNat) (by omega), tset_i (j := (179 + m).toNat) (i := (42 + w 0 1).toNat) (by omega)]
  refine z_iload K dX4_createOperation_120 rfl ?_
  refine t_callv K (tw_setOrdered (by omega) (by omega)) cV_X4_114_X4 rfl rfl (by decide) (Nat.le_of_ble_eq_true rfl) (Nat.le_refl _) (Nat.le_refl _) dX4_createOperation_122 ?_
  rintro _ rfl
  refine z_aload_n K dX4_createOperation_125 rfl rfl rfl ?_
  refine t_geta K fd_X4_9_0 rfl dX4_createOperation_126 ?_
  refine j_sipush K dX4_createOperation_129 (by decide +kernel) ?_
  refine z_iload_n K dX4_createOperation_132 rfl rfl ?_
  refine j_iadd K dX4_createOperation_133 ?_
  refine z_dup2 K dX4_createOperation_134 rfl rfl ?_
  refine t_ild K 0 203 rfl rfl rfl (by omega) (by omega) rfl dX4_createOperation_135 ?_
  rw [tset_i (j := (179 + m).toNat) (i := (183 + 5 * m + w 0 (179 + m).toNat).toNat) (by omega), tset_i (j := (179 + m).toNat) (i := (17 + j).toNat) (by omega), tset_i (j := (179 + m).toNat) (i := (22 + 4 * j + w 0 (17 + j).toNat).toNat) (by omega), tset_i (j := (179 + m).toNat) (i := (122 + w 0 1).toNat) (by omega), tset_i (j := (179 + m).toNat) (i := (102 + w 0 1).toNat) (by omega), tset_i (j := (179 + m).toNat) (i := (82 + w 0 1).toNat) (by omega), tset_i (j := (179 + m).toNat) (i := (62 + w 0 1).toNat) (by omega), tset_i (j := (179 + m).toNat) (i := (42 + w 0 1).toNat) (by omega)]
  refine j_iconst K dX4_createOperation_136 ?_
  refine j_iadd K dX4_createOperation_137 ?_
  refine t_ist K 0 203 rfl rfl rfl (by omega) (by omega) rfl dX4_createOperation_138 ?_
  refine z_aload_n K dX4_createOperation_139 rfl rfl rfl ?_
  refine t_geta K fd_X4_9_0 rfl dX4_createOperation_140 ?_
  refine j_iconst K dX4_createOperation_143 ?_
  refine z_dup2 K dX4_createOperation_144 rfl rfl ?_
  refine t_ild K 0 203 rfl rfl rfl (by omega) (by omega) rfl dX4_createOperation_145 ?_
  rw [e0, tset_i (j := 1) (i := (179 + m).toNat) (by omega), tset_i (j := 1) (i := (183 + 5 * m + w 0 (179 + m).toNat).toNat) (by omega), tset_i (j := 1) (i := (17 + j).toNat) (by omega), tset_i (j := 1) (i := (22 + 4 * j + w 0 (17 + j).toNat).toNat) (by omega), tset_i (j := 1) (i := (122 + w 0 1).toNat) (by omega), tset_i (j := 1) (i := (102 + w 0 1).toNat) (by omega), tset_i (j := 1) (i := (82 + w 0 1).toNat) (by omega), tset_i (j := 1) (i := (62 + w 0 1).toNat) (by omega), tset_i (j := 1) (i := (42 + w 0 1).toNat) (by omega)]
  refine j_iconst K dX4_createOperation_146 ?_
  refine j_iadd K dX4_createOperation_147 ?_
  refine t_ist K 0 203 rfl rfl rfl (by omega) (by omega) rfl dX4_createOperation_148 ?_
  refine z_iload K dX4_createOperation_149 rfl ?_
  exact t_iret K (Nat.le_refl _) (Nat.le_refl _) (⟨rfl, rfl⟩) dX4_createOperation_151
theorem tw_positionOf {w : tW} {k m p : Int} (hk : 0 ≤ k ∧ k < 20) (hm : w 0 (62 + k).toNat = m) (hmr : 0 ≤ m ∧ m < 4) (hp : 0 ≤ p ∧ p < 5) (hat : w 0 (183 + 5 * m + p).toNat = k) (hne : ∀ q : Int, 0 ≤ q → q < p → w 0 (183 + 5 * m + q).toNat ≠ k) (hr : ∀ q : Int, 0 ≤ q → q < p → 0 ≤ w 0 (183 + 5 * m + q).toNat ∧ w 0 (183 + 5 * m + q).toNat < 20) : tMi yX4_positionOf cX4_positionOf 4 .int 2 [.int (iI k)] w (fun v w' => v = p ∧ w' = w) := by
  refine zMet.of (by decide) (Nat.le_of_ble_eq_true rfl) fun X K => ?_
  have loop : ∀ (n : Nat) (q : Int), 0 ≤ q → q + n = p → ∀ env, zsub env [(0, .ref 1000), (1, .int (iI k)), (2, .int (iI m)), (3, .int (iI q))] → zW X (zPi fun x h' => ∃ v w', x = iI v ∧ h' = tH w' ∧ (v = p ∧ w' = w)) (tH w) 0 0 12 env [] := by
    intro n
    induction n with
    | zero =>
      intro q h0 hq env he
      refine zW.cut he ?_
      have e : q = p := by omega
      subst e
      refine z_aload_n K dX4_positionOf_12 rfl rfl rfl ?_
      refine z_iload_n K dX4_positionOf_13 rfl rfl ?_
      refine z_iload_n K dX4_positionOf_14 rfl rfl ?_
      refine t_callp K (tw_ordered (by omega) (by omega)) cV_X4_142_X4 rfl rfl (by decide) (Nat.le_of_ble_eq_true rfl) (Nat.le_refl _) (Nat.le_refl _) dX4_positionOf_15 ?_
      refine z_iload_n K dX4_positionOf_18 rfl rfl ?_
      refine j_icmp_eq (tgt := 28) K dX4_positionOf_19 rfl (by omega) (by omega) (fun c_19 => ?_) (fun c_19 => ?_)
      · refine z_iload_n K dX4_positionOf_28 rfl rfl ?_
        exact t_iret K (Nat.le_refl _) (Nat.le_refl _) (⟨rfl, rfl⟩) dX4_positionOf_29
      · exact absurd hat c_19
    | succ n ih =>
      intro q h0 hq env he
      refine zW.cut he ?_
      have h8 := hr q h0 (by omega)
      refine z_aload_n K dX4_positionOf_12 rfl rfl rfl ?_
      refine z_iload_n K dX4_positionOf_13 rfl rfl ?_
      refine z_iload_n K dX4_positionOf_14 rfl rfl ?_
      refine t_callp K (tw_ordered (by omega) (by omega)) cV_X4_142_X4 rfl rfl (by decide) (Nat.le_of_ble_eq_true rfl) (Nat.le_refl _) (Nat.le_refl _) dX4_positionOf_15 ?_
      refine z_iload_n K dX4_positionOf_18 rfl rfl ?_
      refine j_icmp_eq (tgt := 28) K dX4_positionOf_19 rfl (by omega) (by omega) (fun c_19 => ?_) (fun c_19 => ?_)
      · exact absurd c_19 (hne q h0 (by omega))
      · refine j_iinc K dX4_positionOf_22 rfl (by decide) rfl ?_
        refine z_goto (tgt := 12) K dX4_positionOf_25 rfl ?_
        exact ih (q + 1) (by omega) (by omega) _ ⟨rfl, rfl, rfl, rfl, trivial⟩
  refine z_aload_n K dX4_positionOf_0 rfl rfl rfl ?_
  refine t_geta K fd_X4_9_0 rfl dX4_positionOf_1 ?_
  refine j_bipush K dX4_positionOf_4 (by decide +kernel) ?_
  refine z_iload_n K dX4_positionOf_6 rfl rfl ?_
  refine j_iadd K dX4_positionOf_7 ?_
  refine t_ild K 0 203 rfl rfl rfl (by omega) (by omega) rfl dX4_positionOf_8 ?_
  rw [hm]
  refine z_istore_n K dX4_positionOf_9 rfl (by decide) rfl ?_
  refine j_iconst K dX4_positionOf_10 ?_
  refine z_istore_n K dX4_positionOf_11 rfl (by decide) rfl ?_
  exact loop p.toNat 0 (by omega) (by omega) _ ⟨rfl, rfl, rfl, rfl, trivial⟩
noncomputable def tcAddOp (w : tW) (j m u f : Int) : Int := if ¬ ((0 ≤ j ∧ j ≤ w 0 0 - 1) ∧ 0 ≤ m ∧ m ≤ 3) then 1 else if ¬ ((1 ≤ u ∧ u ≤ 30) ∧ 0 ≤ f ∧ f ≤ 2) then 2 else if w 0 (17 + j).toNat = 4 ∨ bP (hasM (w 0) j m (w 0 (17 + j).toNat).toNat) ≠ 0 then 3 else 0
theorem tw_addOperation {w : tW} {j m u f : Int} (hj : -2147483648 ≤ j ∧ j ≤ 2147483647) (hm : -2147483648 ≤ m ∧ m ≤ 2147483647) (hu : -2147483648 ≤ u ∧ u ≤ 2147483647) (hf : -2147483648 ≤ f ∧ f ≤ 2147483647) (h0 : 0 ≤ w 0 0 ∧ w 0 0 ≤ 5) (h1 : 0 ≤ w 0 1 ∧ w 0 1 ≤ 20)
    (hl : ∀ j : Int, 0 ≤ j → j < w 0 0 → 0 ≤ w 0 (17 + j).toNat ∧ w 0 (17 + j).toNat ≤ 4) (hs : ∀ j : Int, 0 ≤ j → j < w 0 0 → ∀ i : Nat, (i : Int) < w 0 (17 + j).toNat → (0 ≤ w 0 (22 + 4 * j + i).toNat ∧ w 0 (22 + 4 * j + i).toNat < 20) ∧ 0 ≤ w 0 (62 + w 0 (22 + 4 * j + i).toNat).toNat ∧ w 0 (62 + w 0 (22 + 4 * j + i).toNat).toNat ≤ 3)
    (hok : tcAddOp w j m u f = 0 → w 0 1 < 20 ∧ 0 ≤ w 0 (179 + m).toNat ∧ w 0 (179 + m).toNat < 5) :
    tMi yX4_addOperation cX4_addOperation 5 .int 4 [.int (iI j), .int (iI m), .int (iI u), .int (iI f)] w (fun v w' => pub w (tcAddOp w j m u f) (w 0 1) (wOp (tset w 3 0 0) j m u f) w' v) := by
  refine zMet.of (by decide) (Nat.le_of_ble_eq_true rfl) fun X K => ?_
  have tail : ∀ t : Int, t = tcAddOp w j m u f → 0 ≤ t ∧ t ≤ 3 → (t = 0 → (0 ≤ j ∧ j < w 0 0) ∧ (0 ≤ m ∧ m < 4) ∧ w 0 (17 + j).toNat < 4) → ∀ env, zsub env [(0, .ref 1000), (1, .int (iI j)), (2, .int (iI m)), (3, .int (iI u)), (4, .int (iI f))] → zW X (zPi fun x h' => ∃ v w', x = iI v ∧ h' = tH w' ∧ pub w (tcAddOp w j m u f) (w 0 1) (wOp (tset w 3 0 0) j m u f) w' v) (tH w) 0 0 60 env [.int (iI t), .ref 1000] := by
    intro t ht hr h5 env he
    refine zW.cut he ?_
    refine t_puti K fd_X4_79_0 ⟨_, rfl, Or.inl rfl⟩ (by decide) rfl rfl dX4_addOperation_60 ?_
    refine z_aload_n K dX4_addOperation_63 rfl rfl rfl ?_
    refine t_geti K fd_X4_79_0 (by decide) rfl dX4_addOperation_64 ?_
    refine j_if_le (tgt := 74) K dX4_addOperation_67 rfl (by rw [tset_s]; omega) (fun c_67 => ?_) (fun c_67 => ?_)
    · rw [tset_s] at c_67
      obtain rfl : t = 0 := by omega
      have h6 := hok ht.symm
      have h7 := h5 rfl
      have h8 := hl j (by omega) (by omega)
      refine z_aload_n K dX4_addOperation_74 rfl rfl rfl ?_
      refine z_iload_n K dX4_addOperation_75 rfl rfl ?_
      refine z_iload_n K dX4_addOperation_76 rfl rfl ?_
      refine z_iload_n K dX4_addOperation_77 rfl rfl ?_
      refine z_iload K dX4_addOperation_78 rfl ?_
      refine t_calli K (tw_createOperation (by omega) (by omega) (by rw [tset_f (by decide)]; omega) (by rw [tset_f (by decide)]; omega) (by rw [tset_f (by decide)]; omega)) cV_X4_131_X4 rfl rfl (by decide) (Nat.le_of_ble_eq_true rfl) (Nat.le_refl _) (Nat.le_refl _) dX4_addOperation_80 ?_
      rintro _ _ ⟨rfl, rfl⟩
      exact t_iret K (Nat.le_refl _) (Nat.le_refl _) (⟨fun q => by first | exact ⟨tset_f (by decide), rfl⟩ | omega, fun q => by first | exact absurd ht.symm q | rw [ht]⟩) dX4_addOperation_83
    · rw [tset_s] at c_67
      refine j_iconst K dX4_addOperation_70 ?_
      refine z_goto (tgt := 83) K dX4_addOperation_71 rfl ?_
      exact t_iret K (Nat.le_refl _) (Nat.le_refl _) (⟨fun q => by first | exact ⟨tset_f (by decide), rfl⟩ | omega, fun q => by first | exact absurd ht.symm q | rw [ht]⟩) dX4_addOperation_83
  refine z_aload_n K dX4_addOperation_0 rfl rfl rfl ?_
  refine z_aload_n K dX4_addOperation_1 rfl rfl rfl ?_
  refine z_iload_n K dX4_addOperation_2 rfl rfl ?_
  refine t_callp K (tw_isJob (by omega) (by omega)) cV_X4_118_X4 rfl rfl (by decide) (Nat.le_of_ble_eq_true rfl) (Nat.le_refl _) (Nat.le_refl _) dX4_addOperation_3 ?_
  refine j_if_eq (tgt := 16) K dX4_addOperation_6 rfl (b01r _) (fun c_6 => ?_) (fun c_6 => ?_)
  · rw [bI_eq] at c_6
    refine j_iconst K dX4_addOperation_16 ?_
    refine z_goto (tgt := 60) K dX4_addOperation_17 rfl ?_
    exact tail _ (by unfold tcAddOp; simp [*]) (by omega) (by omega) _ ⟨rfl, rfl, rfl, rfl, rfl, trivial⟩
  · rw [bI_ne] at c_6
    refine z_iload_n K dX4_addOperation_9 rfl rfl ?_
    refine z_calls K (s_isMachine (by omega)) cS_X4_122 rfl rfl (by decide) (Nat.le_of_ble_eq_true rfl) (Nat.le_refl _) (Nat.le_refl _) dX4_addOperation_10 ?_
    refine j_if_ne (tgt := 20) K dX4_addOperation_13 rfl (b01r _) (fun c_13 => ?_) (fun c_13 => ?_)
    · rw [bI_ne] at c_13
      have h8 := hl j (by omega) (by omega)
      have h9 := hs j (by omega) (by omega)
      refine z_iload_n K dX4_addOperation_20 rfl rfl ?_
      refine z_iload K dX4_addOperation_21 rfl ?_
      refine z_calls K (s_areProperties (by omega) (by omega)) cS_X4_125 rfl rfl (by decide) (Nat.le_of_ble_eq_true rfl) (Nat.le_refl _) (Nat.le_refl _) dX4_addOperation_23 ?_
      refine j_if_ne (tgt := 33) K dX4_addOperation_26 rfl (b01r _) (fun c_26 => ?_) (fun c_26 => ?_)
      · rw [bI_ne] at c_26
        refine z_aload_n K dX4_addOperation_33 rfl rfl rfl ?_
        refine t_geta K fd_X4_9_0 rfl dX4_addOperation_34 ?_
        refine j_bipush K dX4_addOperation_37 (by decide +kernel) ?_
        refine z_iload_n K dX4_addOperation_39 rfl rfl ?_
        refine j_iadd K dX4_addOperation_40 ?_
        refine t_ild K 0 203 rfl rfl rfl (by omega) (by omega) rfl dX4_addOperation_41 ?_
        refine j_iconst K dX4_addOperation_42 ?_
        refine j_icmp_eq (tgt := 55) K dX4_addOperation_43 rfl (by omega) (by omega) (fun c_43 => ?_) (fun c_43 => ?_)
        · refine j_iconst K dX4_addOperation_55 ?_
          refine z_goto (tgt := 60) K dX4_addOperation_56 rfl ?_
          exact tail _ (by unfold tcAddOp; simp [*]) (by omega) (by omega) _ ⟨rfl, rfl, rfl, rfl, rfl, trivial⟩
        · refine z_aload_n K dX4_addOperation_46 rfl rfl rfl ?_
          refine z_iload_n K dX4_addOperation_47 rfl rfl ?_
          refine z_iload_n K dX4_addOperation_48 rfl rfl ?_
          refine t_callp K (tw_hasMachine (by omega) (by omega) (by omega) (fun i hi => (h9 i hi).1) (fun i hi => (h9 i hi).2)) cV_X4_128_X4 rfl rfl (by decide) (Nat.le_of_ble_eq_true rfl) (Nat.le_refl _) (Nat.le_refl _) dX4_addOperation_49 ?_
          refine j_if_eq (tgt := 59) K dX4_addOperation_52 rfl (bP_r _) (fun c_52 => ?_) (fun c_52 => ?_)
          · refine j_iconst K dX4_addOperation_59 ?_
            exact tail _ (by unfold tcAddOp; simp [*]) (by omega) (by omega) _ ⟨rfl, rfl, rfl, rfl, rfl, trivial⟩
          · refine j_iconst K dX4_addOperation_55 ?_
            refine z_goto (tgt := 60) K dX4_addOperation_56 rfl ?_
            exact tail _ (by unfold tcAddOp; simp [*]) (by omega) (by omega) _ ⟨rfl, rfl, rfl, rfl, rfl, trivial⟩
      · rw [bI_eq] at c_26
        refine j_iconst K dX4_addOperation_29 ?_
        refine z_goto (tgt := 60) K dX4_addOperation_30 rfl ?_
        exact tail _ (by unfold tcAddOp; simp [*]) (by omega) (by omega) _ ⟨rfl, rfl, rfl, rfl, rfl, trivial⟩
    · rw [bI_eq] at c_13
      refine j_iconst K dX4_addOperation_16 ?_
      refine z_goto (tgt := 60) K dX4_addOperation_17 rfl ?_
      exact tail _ (by unfold tcAddOp; simp [*]) (by omega) (by omega) _ ⟨rfl, rfl, rfl, rfl, rfl, trivial⟩
noncomputable def tcSetJob (w : tW) (j a v : Int) : Int := if ¬ (0 ≤ j ∧ j ≤ w 0 0 - 1) then 1 else if ¬ ((0 ≤ a ∧ a ≤ 2) ∧ bP (jpOk a v) ≠ 0) then 2 else 0
theorem tw_setJob {w : tW} {j a v : Int} (hj : -2147483648 ≤ j ∧ j ≤ 2147483647) (ha : -2147483648 ≤ a ∧ a ≤ 2147483647) (hv : -2147483648 ≤ v ∧ v ≤ 2147483647) (h0 : 0 ≤ w 0 0 ∧ w 0 0 ≤ 5) :
    tMi yX4_setJob cX4_setJob 6 .int 4 [.int (iI j), .int (iI a), .int (iI v)] w (fun v9 w' => pub w (tcSetJob w j a v) (w 0 (2 + 5 * a + j).toNat) (tset (tset w 3 0 0) 0 (2 + 5 * a + j).toNat v) w' v9) := by
  refine zMet.of (by decide) (Nat.le_of_ble_eq_true rfl) fun X K => ?_
  have tail : ∀ t : Int, t = tcSetJob w j a v → 0 ≤ t ∧ t ≤ 3 → (t = 0 → (0 ≤ j ∧ j < w 0 0) ∧ (0 ≤ a ∧ a ≤ 2)) → ∀ env, zsub env [(0, .ref 1000), (1, .int (iI j)), (2, .int (iI a)), (3, .int (iI v))] → zW X (zPi fun x h' => ∃ v9 w', x = iI v9 ∧ h' = tH w' ∧ pub w (tcSetJob w j a v) (w 0 (2 + 5 * a + j).toNat) (tset (tset w 3 0 0) 0 (2 + 5 * a + j).toNat v) w' v9) (tH w) 0 0 38 env [.int (iI t), .ref 1000] := by
    intro t ht hr h5 env he
    refine zW.cut he ?_
    refine t_puti K fd_X4_79_0 ⟨_, rfl, Or.inl rfl⟩ (by decide) rfl rfl dX4_setJob_38 ?_
    refine z_aload_n K dX4_setJob_41 rfl rfl rfl ?_
    refine t_geti K fd_X4_79_0 (by decide) rfl dX4_setJob_42 ?_
    refine j_if_le (tgt := 50) K dX4_setJob_45 rfl (by rw [tset_s]; omega) (fun c_45 => ?_) (fun c_45 => ?_)
    · rw [tset_s] at c_45
      obtain rfl : t = 0 := by omega
      have h7 := h5 rfl
      refine j_iconst K dX4_setJob_50 ?_
      refine j_iconst K dX4_setJob_51 ?_
      refine z_iload_n K dX4_setJob_52 rfl rfl ?_
      refine j_imul K dX4_setJob_53 ?_
      refine j_iadd K dX4_setJob_54 ?_
      refine z_iload_n K dX4_setJob_55 rfl rfl ?_
      refine j_iadd K dX4_setJob_56 ?_
      refine z_istore K dX4_setJob_57 (by decide) rfl ?_
      refine z_aload_n K dX4_setJob_59 rfl rfl rfl ?_
      refine t_geta K fd_X4_9_0 rfl dX4_setJob_60 ?_
      refine z_iload K dX4_setJob_63 rfl ?_
      refine t_ild K 0 203 rfl rfl rfl (by omega) (by omega) rfl dX4_setJob_65 ?_
      refine z_istore K dX4_setJob_66 (by decide) rfl ?_
      refine z_aload_n K dX4_setJob_68 rfl rfl rfl ?_
      refine t_geta K fd_X4_9_0 rfl dX4_setJob_69 ?_
      refine z_iload K dX4_setJob_72 rfl ?_
      refine z_iload_n K dX4_setJob_74 rfl rfl ?_
      refine t_ist K 0 203 rfl rfl rfl (by omega) (by omega) rfl dX4_setJob_75 ?_
      refine z_iload K dX4_setJob_76 rfl ?_
      exact t_iret K (Nat.le_refl _) (Nat.le_refl _) (⟨fun q => ⟨tset_f (by decide), rfl⟩, fun q => absurd ht.symm q⟩) dX4_setJob_78
    · rw [tset_s] at c_45
      refine j_iconst K dX4_setJob_48 ?_
      exact t_iret K (Nat.le_refl _) (Nat.le_refl _) (⟨fun q => by omega, fun q => by rw [ht]⟩) dX4_setJob_49
  refine z_aload_n K dX4_setJob_0 rfl rfl rfl ?_
  refine z_aload_n K dX4_setJob_1 rfl rfl rfl ?_
  refine z_iload_n K dX4_setJob_2 rfl rfl ?_
  refine t_callp K (tw_isJob (by omega) (by omega)) cV_X4_118_X4 rfl rfl (by decide) (Nat.le_of_ble_eq_true rfl) (Nat.le_refl _) (Nat.le_refl _) dX4_setJob_3 ?_
  refine j_if_ne (tgt := 13) K dX4_setJob_6 rfl (b01r _) (fun c_6 => ?_) (fun c_6 => ?_)
  · rw [bI_ne] at c_6
    refine z_iload_n K dX4_setJob_13 rfl rfl ?_
    refine j_i2l K (by omega) dX4_setJob_14 ?_
    refine j_lconst0 K dX4_setJob_15 ?_
    refine j_ldc2 K 2 q1946 (by decide +kernel) dX4_setJob_16 ?_
    refine z_calls K (s_in (by omega) (by omega) (by omega)) cS_X4_82 rfl rfl (by decide) (Nat.le_of_ble_eq_true rfl) (Nat.le_refl _) (Nat.le_refl _) dX4_setJob_19 ?_
    refine j_if_eq (tgt := 33) K dX4_setJob_22 rfl (b01r _) (fun c_22 => ?_) (fun c_22 => ?_)
    · rw [bI_eq] at c_22
      refine j_iconst K dX4_setJob_33 ?_
      refine z_goto (tgt := 38) K dX4_setJob_34 rfl ?_
      exact tail _ (by unfold tcSetJob; simp [*]) (by omega) (by omega) _ ⟨rfl, rfl, rfl, rfl, trivial⟩
    · rw [bI_ne] at c_22
      refine z_iload_n K dX4_setJob_25 rfl rfl ?_
      refine z_iload_n K dX4_setJob_26 rfl rfl ?_
      refine z_calls K (s_isJobProperty (by omega) (by omega)) cS_X4_94 rfl rfl (by decide) (Nat.le_of_ble_eq_true rfl) (Nat.le_refl _) (Nat.le_refl _) dX4_setJob_27 ?_
      refine j_if_ne (tgt := 37) K dX4_setJob_30 rfl (bP_r _) (fun c_30 => ?_) (fun c_30 => ?_)
      · refine j_iconst K dX4_setJob_37 ?_
        exact tail _ (by unfold tcSetJob; simp [*]) (by omega) (by omega) _ ⟨rfl, rfl, rfl, rfl, trivial⟩
      · refine j_iconst K dX4_setJob_33 ?_
        refine z_goto (tgt := 38) K dX4_setJob_34 rfl ?_
        exact tail _ (by unfold tcSetJob; simp [*]) (by omega) (by omega) _ ⟨rfl, rfl, rfl, rfl, trivial⟩
  · rw [bI_eq] at c_6
    refine j_iconst K dX4_setJob_9 ?_
    refine z_goto (tgt := 38) K dX4_setJob_10 rfl ?_
    exact tail _ (by unfold tcSetJob; simp [*]) (by omega) (by omega) _ ⟨rfl, rfl, rfl, rfl, trivial⟩
noncomputable def tcSetDur (w : tW) (k u : Int) : Int := if ¬ (0 ≤ k ∧ k ≤ w 0 1 - 1) then 1 else if ¬ (1 ≤ u ∧ u ≤ 30) then 2 else 0
theorem tw_setDuration {w : tW} {j v : Int} (hj : -2147483648 ≤ j ∧ j ≤ 2147483647) (hv : -2147483648 ≤ v ∧ v ≤ 2147483647) (h0 : 0 ≤ w 0 1 ∧ w 0 1 ≤ 20) :
    tMi yX4_setDuration cX4_setDuration 4 .int 4 [.int (iI j), .int (iI v)] w (fun v9 w' => pub w (tcSetDur w j v) (w 0 (82 + j).toNat) (tset (tset w 3 0 0) 0 (82 + j).toNat v) w' v9) := by
  refine zMet.of (by decide) (Nat.le_of_ble_eq_true rfl) fun X K => ?_
  have tail : ∀ t : Int, t = tcSetDur w j v → 0 ≤ t ∧ t ≤ 3 → (t = 0 → (0 ≤ j ∧ j < w 0 1)) → ∀ env, zsub env [(0, .ref 1000), (1, .int (iI j)), (2, .int (iI v))] → zW X (zPi fun x h' => ∃ v9 w', x = iI v9 ∧ h' = tH w' ∧ pub w (tcSetDur w j v) (w 0 (82 + j).toNat) (tset (tset w 3 0 0) 0 (82 + j).toNat v) w' v9) (tH w) 0 0 30 env [.int (iI t), .ref 1000] := by
    intro t ht hr h5 env he
    refine zW.cut he ?_
    refine t_puti K fd_X4_79_0 ⟨_, rfl, Or.inl rfl⟩ (by decide) rfl rfl dX4_setDuration_30 ?_
    refine z_aload_n K dX4_setDuration_33 rfl rfl rfl ?_
    refine t_geti K fd_X4_79_0 (by decide) rfl dX4_setDuration_34 ?_
    refine j_if_le (tgt := 42) K dX4_setDuration_37 rfl (by rw [tset_s]; omega) (fun c_37 => ?_) (fun c_37 => ?_)
    · rw [tset_s] at c_37
      obtain rfl : t = 0 := by omega
      have h7 := h5 rfl
      refine z_aload_n K dX4_setDuration_42 rfl rfl rfl ?_
      refine t_geta K fd_X4_9_0 rfl dX4_setDuration_43 ?_
      refine j_bipush K dX4_setDuration_46 (by decide +kernel) ?_
      refine z_iload_n K dX4_setDuration_48 rfl rfl ?_
      refine j_iadd K dX4_setDuration_49 ?_
      refine t_ild K 0 203 rfl rfl rfl (by omega) (by omega) rfl dX4_setDuration_50 ?_
      refine z_istore_n K dX4_setDuration_51 rfl (by decide) rfl ?_
      refine z_aload_n K dX4_setDuration_52 rfl rfl rfl ?_
      refine t_geta K fd_X4_9_0 rfl dX4_setDuration_53 ?_
      refine j_bipush K dX4_setDuration_56 (by decide +kernel) ?_
      refine z_iload_n K dX4_setDuration_58 rfl rfl ?_
      refine j_iadd K dX4_setDuration_59 ?_
      refine z_iload_n K dX4_setDuration_60 rfl rfl ?_
      refine t_ist K 0 203 rfl rfl rfl (by omega) (by omega) rfl dX4_setDuration_61 ?_
      refine z_iload_n K dX4_setDuration_62 rfl rfl ?_
      exact t_iret K (Nat.le_refl _) (Nat.le_refl _) (⟨fun q => ⟨tset_f (by decide), rfl⟩, fun q => absurd ht.symm q⟩) dX4_setDuration_63
    · rw [tset_s] at c_37
      refine j_iconst K dX4_setDuration_40 ?_
      exact t_iret K (Nat.le_refl _) (Nat.le_refl _) (⟨fun q => by omega, fun q => by rw [ht]⟩) dX4_setDuration_41
  refine z_aload_n K dX4_setDuration_0 rfl rfl rfl ?_
  refine z_aload_n K dX4_setDuration_1 rfl rfl rfl ?_
  refine z_iload_n K dX4_setDuration_2 rfl rfl ?_
  refine t_callp K (tw_isOperation (by omega) (by omega)) cV_X4_135_X4 rfl rfl (by decide) (Nat.le_of_ble_eq_true rfl) (Nat.le_refl _) (Nat.le_refl _) dX4_setDuration_3 ?_
  refine j_if_ne (tgt := 13) K dX4_setDuration_6 rfl (b01r _) (fun c_6 => ?_) (fun c_6 => ?_)
  · rw [bI_ne] at c_6
    refine z_iload_n K dX4_setDuration_13 rfl rfl ?_
    refine j_i2l K (by omega) dX4_setDuration_14 ?_
    refine j_lconst1 K dX4_setDuration_15 ?_
    refine j_ldc2 K 30 q1945 (by decide +kernel) dX4_setDuration_16 ?_
    refine z_calls K (s_in (by omega) (by omega) (by omega)) cS_X4_82 rfl rfl (by decide) (Nat.le_of_ble_eq_true rfl) (Nat.le_refl _) (Nat.le_refl _) dX4_setDuration_19 ?_
    refine j_if_ne (tgt := 29) K dX4_setDuration_22 rfl (b01r _) (fun c_22 => ?_) (fun c_22 => ?_)
    · rw [bI_ne] at c_22
      refine j_iconst K dX4_setDuration_29 ?_
      exact tail _ (by unfold tcSetDur; simp [*]) (by omega) (by omega) _ ⟨rfl, rfl, rfl, trivial⟩
    · rw [bI_eq] at c_22
      refine j_iconst K dX4_setDuration_25 ?_
      refine z_goto (tgt := 30) K dX4_setDuration_26 rfl ?_
      exact tail _ (by unfold tcSetDur; simp [*]) (by omega) (by omega) _ ⟨rfl, rfl, rfl, trivial⟩
  · rw [bI_eq] at c_6
    refine j_iconst K dX4_setDuration_9 ?_
    refine z_goto (tgt := 30) K dX4_setDuration_10 rfl ?_
    exact tail _ (by unfold tcSetDur; simp [*]) (by omega) (by omega) _ ⟨rfl, rfl, rfl, trivial⟩
noncomputable def tcSetSetup (a b c : Int) : Int := if ¬ ((0 ≤ a ∧ a ≤ 2) ∧ 0 ≤ b ∧ b ≤ 2) then 1 else if ¬ (0 ≤ c ∧ c ≤ 9) then 2 else 0
theorem tw_setSetup {w : tW} {a b c : Int} (ha : -2147483648 ≤ a ∧ a ≤ 2147483647) (hb : -2147483648 ≤ b ∧ b ≤ 2147483647) (hc : -2147483648 ≤ c ∧ c ≤ 2147483647) :
    tMi yX4_setSetup cX4_setSetup 6 .int 4 [.int (iI a), .int (iI b), .int (iI c)] w (fun v9 w' => pub w (tcSetSetup a b c) (w 0 (142 + 3 * a + b).toNat) (tset (tset w 3 0 0) 0 (142 + 3 * a + b).toNat c) w' v9) := by
  refine zMet.of (by decide) (Nat.le_of_ble_eq_true rfl) fun X K => ?_
  have tail : ∀ t : Int, t = tcSetSetup a b c → 0 ≤ t ∧ t ≤ 3 → (t = 0 → (0 ≤ a ∧ a ≤ 2) ∧ (0 ≤ b ∧ b ≤ 2)) → ∀ env, zsub env [(0, .ref 1000), (1, .int (iI a)), (2, .int (iI b)), (3, .int (iI c))] → zW X (zPi fun x h' => ∃ v9 w', x = iI v9 ∧ h' = tH w' ∧ pub w (tcSetSetup a b c) (w 0 (142 + 3 * a + b).toNat) (tset (tset w 3 0 0) 0 (142 + 3 * a + b).toNat c) w' v9) (tH w) 0 0 46 env [.int (iI t), .ref 1000] := by
    intro t ht hr h5 env he
    refine zW.cut he ?_
    refine t_puti K fd_X4_79_0 ⟨_, rfl, Or.inl rfl⟩ (by decide) rfl rfl dX4_setSetup_46 ?_
    refine z_aload_n K dX4_setSetup_49 rfl rfl rfl ?_
    refine t_geti K fd_X4_79_0 (by decide) rfl dX4_setSetup_50 ?_
    refine j_if_le (tgt := 58) K dX4_setSetup_53 rfl (by rw [tset_s]; omega) (fun c_53 => ?_) (fun c_53 => ?_)
    · rw [tset_s] at c_53
      obtain rfl : t = 0 := by omega
      have h7 := h5 rfl
      refine j_sipush K dX4_setSetup_58 (by decide +kernel) ?_
      refine j_iconst K dX4_setSetup_61 ?_
      refine z_iload_n K dX4_setSetup_62 rfl rfl ?_
      refine j_imul K dX4_setSetup_63 ?_
      refine j_iadd K dX4_setSetup_64 ?_
      refine z_iload_n K dX4_setSetup_65 rfl rfl ?_
      refine j_iadd K dX4_setSetup_66 ?_
      refine z_istore K dX4_setSetup_67 (by decide) rfl ?_
      refine z_aload_n K dX4_setSetup_69 rfl rfl rfl ?_
      refine t_geta K fd_X4_9_0 rfl dX4_setSetup_70 ?_
      refine z_iload K dX4_setSetup_73 rfl ?_
      refine t_ild K 0 203 rfl rfl rfl (by omega) (by omega) rfl dX4_setSetup_75 ?_
      refine z_istore K dX4_setSetup_76 (by decide) rfl ?_
      refine z_aload_n K dX4_setSetup_78 rfl rfl rfl ?_
      refine t_geta K fd_X4_9_0 rfl dX4_setSetup_79 ?_
      refine z_iload K dX4_setSetup_82 rfl ?_
      refine z_iload_n K dX4_setSetup_84 rfl rfl ?_
      refine t_ist K 0 203 rfl rfl rfl (by omega) (by omega) rfl dX4_setSetup_85 ?_
      refine z_iload K dX4_setSetup_86 rfl ?_
      exact t_iret K (Nat.le_refl _) (Nat.le_refl _) (⟨fun q => ⟨tset_f (by decide), rfl⟩, fun q => absurd ht.symm q⟩) dX4_setSetup_88
    · rw [tset_s] at c_53
      refine j_iconst K dX4_setSetup_56 ?_
      exact t_iret K (Nat.le_refl _) (Nat.le_refl _) (⟨fun q => by omega, fun q => by rw [ht]⟩) dX4_setSetup_57
  refine z_aload_n K dX4_setSetup_0 rfl rfl rfl ?_
  refine z_iload_n K dX4_setSetup_1 rfl rfl ?_
  refine j_i2l K (by omega) dX4_setSetup_2 ?_
  refine j_lconst0 K dX4_setSetup_3 ?_
  refine j_ldc2 K 2 q1946 (by decide +kernel) dX4_setSetup_4 ?_
  refine z_calls K (s_in (by omega) (by omega) (by omega)) cS_X4_82 rfl rfl (by decide) (Nat.le_of_ble_eq_true rfl) (Nat.le_refl _) (Nat.le_refl _) dX4_setSetup_7 ?_
  refine j_if_eq (tgt := 25) K dX4_setSetup_10 rfl (b01r _) (fun c_10 => ?_) (fun c_10 => ?_)
  · rw [bI_eq] at c_10
    refine j_iconst K dX4_setSetup_25 ?_
    refine z_goto (tgt := 46) K dX4_setSetup_26 rfl ?_
    exact tail _ (by unfold tcSetSetup; simp [*]) (by omega) (by omega) _ ⟨rfl, rfl, rfl, rfl, trivial⟩
  · rw [bI_ne] at c_10
    refine z_iload_n K dX4_setSetup_13 rfl rfl ?_
    refine j_i2l K (by omega) dX4_setSetup_14 ?_
    refine j_lconst0 K dX4_setSetup_15 ?_
    refine j_ldc2 K 2 q1946 (by decide +kernel) dX4_setSetup_16 ?_
    refine z_calls K (s_in (by omega) (by omega) (by omega)) cS_X4_82 rfl rfl (by decide) (Nat.le_of_ble_eq_true rfl) (Nat.le_refl _) (Nat.le_refl _) dX4_setSetup_19 ?_
    refine j_if_ne (tgt := 29) K dX4_setSetup_22 rfl (b01r _) (fun c_22 => ?_) (fun c_22 => ?_)
    · rw [bI_ne] at c_22
      refine z_iload_n K dX4_setSetup_29 rfl rfl ?_
      refine j_i2l K (by omega) dX4_setSetup_30 ?_
      refine j_lconst0 K dX4_setSetup_31 ?_
      refine j_ldc2 K 9 q1925 (by decide +kernel) dX4_setSetup_32 ?_
      refine z_calls K (s_in (by omega) (by omega) (by omega)) cS_X4_82 rfl rfl (by decide) (Nat.le_of_ble_eq_true rfl) (Nat.le_refl _) (Nat.le_refl _) dX4_setSetup_35 ?_
      refine j_if_ne (tgt := 45) K dX4_setSetup_38 rfl (b01r _) (fun c_38 => ?_) (fun c_38 => ?_)
      · rw [bI_ne] at c_38
        refine j_iconst K dX4_setSetup_45 ?_
        exact tail _ (by unfold tcSetSetup; simp [*]) (by omega) (by omega) _ ⟨rfl, rfl, rfl, rfl, trivial⟩
      · rw [bI_eq] at c_38
        refine j_iconst K dX4_setSetup_41 ?_
        refine z_goto (tgt := 46) K dX4_setSetup_42 rfl ?_
        exact tail _ (by unfold tcSetSetup; simp [*]) (by omega) (by omega) _ ⟨rfl, rfl, rfl, rfl, trivial⟩
    · rw [bI_eq] at c_22
      refine j_iconst K dX4_setSetup_25 ?_
      refine z_goto (tgt := 46) K dX4_setSetup_26 rfl ?_
      exact tail _ (by unfold tcSetSetup; simp [*]) (by omega) (by omega) _ ⟨rfl, rfl, rfl, rfl, trivial⟩

