/-! ===== the reference: its leaves ===== -/
theorem b01 (p : Prop) [Decidable p] : (if p then (1 : Int) else 0) = 0 ∨ (if p then (1 : Int) else 0) = 1 := by split <;> simp
theorem b01r (p : Prop) [Decidable p] : -2147483648 ≤ (if p then (1 : Int) else 0) ∧ (if p then (1 : Int) else 0) ≤ 2147483647 := by split <;> omega
abbrev bI (p : Prop) [Decidable p] : Int := if p then 1 else 0
theorem bI_ne {p : Prop} [Decidable p] : bI p ≠ 0 ↔ p := by unfold bI; split <;> simp [*]
theorem bI_eq {p : Prop} [Decidable p] : bI p = 0 ↔ ¬ p := by unfold bI; split <;> simp [*]
/-- in(value, low, high) -/
theorem s_in {a b c : Int} (ha : -9223372036854775808 ≤ a ∧ a ≤ 9223372036854775807) (hb : -9223372036854775808 ≤ b ∧ b ≤ 9223372036854775807) (hc : -9223372036854775808 ≤ c ∧ c ≤ 9223372036854775807) : zMs yX4_in cX4_in 6 .boolean 1 [.long (lI a), .long (lI b), .long (lI c)] (bI (b ≤ a ∧ a ≤ c)) := by
  intro h
  refine zMet.of (by decide) (Nat.le_of_ble_eq_true rfl) fun X K => ?_
  have cl : ∀ a b : Int, -2147483648 ≤ (if a < b then (-1 : Int) else if a = b then 0 else 1) ∧ (if a < b then (-1 : Int) else if a = b then 0 else 1) ≤ 2147483647 := fun a b => by split <;> (try split) <;> omega
  have c0 : ∀ a b : Int, (if a < b then (-1 : Int) else if a = b then 0 else 1) < 0 ↔ a < b := fun a b => by split <;> (try split) <;> omega
  have c1 : ∀ a b : Int, 0 < (if a < b then (-1 : Int) else if a = b then 0 else 1) ↔ b < a := fun a b => by split <;> (try split) <;> omega
  refine z_lload_n K dX4_in_0 rfl rfl ?_
  refine z_lload_n K dX4_in_1 rfl rfl ?_
  refine j_lcmp K (by omega) (by omega) dX4_in_2 ?_
  refine j_if_lt (tgt := 17) K dX4_in_3 rfl (cl _ _) (fun c_3 => ?_) (fun c_3 => ?_)
  · rw [c0] at c_3
    refine j_iconst K dX4_in_17 ?_
    exact s_zret K (by omega) (Nat.le_refl _) (Nat.le_refl _) (by unfold bI; split <;> omega) dX4_in_18
  · rw [← Int.not_lt, c0] at c_3
    refine z_lload_n K dX4_in_6 rfl rfl ?_
    refine z_lload K dX4_in_7 rfl ?_
    refine j_lcmp K (by omega) (by omega) dX4_in_9 ?_
    refine j_if_gt (tgt := 17) K dX4_in_10 rfl (cl _ _) (fun c_10 => ?_) (fun c_10 => ?_)
    · rw [c1] at c_10
      refine j_iconst K dX4_in_17 ?_
      exact s_zret K (by omega) (Nat.le_refl _) (Nat.le_refl _) (by unfold bI; split <;> omega) dX4_in_18
    · rw [← Int.not_lt, c1] at c_10
      refine j_iconst K dX4_in_13 ?_
      refine z_goto (tgt := 18) K dX4_in_14 rfl ?_
      exact s_zret K (by omega) (Nat.le_refl _) (Nat.le_refl _) (by unfold bI; split <;> omega) dX4_in_18
theorem tw_thrown {w : tW} : tMi yX4_thrown cX4_thrown 1 .int 1 [] w (fun v w' => v = w 3 0 ∧ w' = w) := by
  refine zMet.of (by decide) (Nat.le_of_ble_eq_true rfl) fun X K => ?_
  refine z_aload_n K dX4_thrown_0 rfl rfl rfl ?_
  refine t_geti K fd_X4_79_0 (by decide) rfl dX4_thrown_1 ?_
  exact t_iret K (Nat.le_refl _) (Nat.le_refl _) (⟨rfl, rfl⟩) dX4_thrown_4
theorem tw_isJob {w : tW} {j : Int} (hj : -2147483648 ≤ j ∧ j ≤ 2147483647) (h0 : 0 ≤ w 0 0 ∧ w 0 0 ≤ 5) : tMi yX4_isJob cX4_isJob 2 .boolean 2 [.int (iI j)] w (fun v w' => v = bI (0 ≤ j ∧ j ≤ w 0 0 - 1) ∧ w' = w) := by
  refine zMet.of (by decide) (Nat.le_of_ble_eq_true rfl) fun X K => ?_
  have e0 : (0 : Int).toNat = 0 := rfl
  refine z_iload_n K dX4_isJob_0 rfl rfl ?_
  refine j_i2l K (by omega) dX4_isJob_1 ?_
  refine j_lconst0 K dX4_isJob_2 ?_
  refine z_aload_n K dX4_isJob_3 rfl rfl rfl ?_
  refine t_geta K fd_X4_9_0 rfl dX4_isJob_4 ?_
  refine j_iconst K dX4_isJob_7 ?_
  refine t_ild K 0 203 rfl rfl rfl (by omega) (by omega) rfl dX4_isJob_8 ?_
  refine j_iconst K dX4_isJob_9 ?_
  refine j_isub K dX4_isJob_10 ?_
  refine j_i2l K (by rw [e0]; omega) dX4_isJob_11 ?_
  rw [e0]
  refine z_calls K (s_in (by omega) (by omega) (by omega)) cS_X4_82 rfl rfl (by decide) (Nat.le_of_ble_eq_true rfl) (Nat.le_refl _) (Nat.le_refl _) dX4_isJob_12 ?_
  exact t_zret K (b01 _) (Nat.le_refl _) (Nat.le_refl _) (⟨rfl, rfl⟩) dX4_isJob_15
theorem tw_isOperation {w : tW} {j : Int} (hj : -2147483648 ≤ j ∧ j ≤ 2147483647) (h0 : 0 ≤ w 0 1 ∧ w 0 1 ≤ 20) : tMi yX4_isOperation cX4_isOperation 2 .boolean 2 [.int (iI j)] w (fun v w' => v = bI (0 ≤ j ∧ j ≤ w 0 1 - 1) ∧ w' = w) := by
  refine zMet.of (by decide) (Nat.le_of_ble_eq_true rfl) fun X K => ?_
  have e0 : (1 : Int).toNat = 1 := rfl
  refine z_iload_n K dX4_isOperation_0 rfl rfl ?_
  refine j_i2l K (by omega) dX4_isOperation_1 ?_
  refine j_lconst0 K dX4_isOperation_2 ?_
  refine z_aload_n K dX4_isOperation_3 rfl rfl rfl ?_
  refine t_geta K fd_X4_9_0 rfl dX4_isOperation_4 ?_
  refine j_iconst K dX4_isOperation_7 ?_
  refine t_ild K 0 203 rfl rfl rfl (by omega) (by omega) rfl dX4_isOperation_8 ?_
  refine j_iconst K dX4_isOperation_9 ?_
  refine j_isub K dX4_isOperation_10 ?_
  refine j_i2l K (by rw [e0]; omega) dX4_isOperation_11 ?_
  rw [e0]
  refine z_calls K (s_in (by omega) (by omega) (by omega)) cS_X4_82 rfl rfl (by decide) (Nat.le_of_ble_eq_true rfl) (Nat.le_refl _) (Nat.le_refl _) dX4_isOperation_12 ?_
  exact t_zret K (b01 _) (Nat.le_refl _) (Nat.le_refl _) (⟨rfl, rfl⟩) dX4_isOperation_15
theorem s_isMachine {m : Int} (hm : -2147483648 ≤ m ∧ m ≤ 2147483647) : zMs yX4_isMachine cX4_isMachine 1 .boolean 2 [.int (iI m)] (bI (0 ≤ m ∧ m ≤ 3)) := by
  intro h
  refine zMet.of (by decide) (Nat.le_of_ble_eq_true rfl) fun X K => ?_
  refine z_iload_n K dX4_isMachine_0 rfl rfl ?_
  refine j_i2l K (by omega) dX4_isMachine_1 ?_
  refine j_lconst0 K dX4_isMachine_2 ?_
  refine j_ldc2 K 3 q1941 (by decide +kernel) dX4_isMachine_3 ?_
  refine z_calls K (s_in (by omega) (by omega) (by omega)) cS_X4_82 rfl rfl (by decide) (Nat.le_of_ble_eq_true rfl) (Nat.le_refl _) (Nat.le_refl _) dX4_isMachine_6 ?_
  exact s_zret K (b01 _) (Nat.le_refl _) (Nat.le_refl _) (rfl) dX4_isMachine_9
theorem tw_ordered {w : tW} {m p : Int} (h0 : 0 ≤ 183 + 5 * m + p) (h1 : 183 + 5 * m + p < 203) : tMi yX4_ordered cX4_ordered 3 .int 1 [.int (iI m), .int (iI p)] w (fun v w' => v = w 0 (183 + 5 * m + p).toNat ∧ w' = w) := by
  refine zMet.of (by decide) (Nat.le_of_ble_eq_true rfl) fun X K => ?_
  refine z_aload_n K dX4_ordered_0 rfl rfl rfl ?_
  refine t_geta K fd_X4_9_0 rfl dX4_ordered_1 ?_
  refine j_sipush K dX4_ordered_4 (by decide +kernel) ?_
  refine j_iconst K dX4_ordered_7 ?_
  refine z_iload_n K dX4_ordered_8 rfl rfl ?_
  refine j_imul K dX4_ordered_9 ?_
  refine j_iadd K dX4_ordered_10 ?_
  refine z_iload_n K dX4_ordered_11 rfl rfl ?_
  refine j_iadd K dX4_ordered_12 ?_
  refine t_ild K 0 203 rfl rfl rfl (by omega) (by omega) rfl dX4_ordered_13 ?_
  exact t_iret K (Nat.le_refl _) (Nat.le_refl _) (⟨rfl, rfl⟩) dX4_ordered_14
theorem tw_setOrdered {w : tW} {m p o : Int} (h0 : 0 ≤ 183 + 5 * m + p) (h1 : 183 + 5 * m + p < 203) : tMv yX4_setOrdered cX4_setOrdered 4 1 [.int (iI m), .int (iI p), .int (iI o)] w (fun w' => w' = tset w 0 (183 + 5 * m + p).toNat o) := by
  refine zMet.of (by decide) (Nat.le_of_ble_eq_true rfl) fun X K => ?_
  refine z_aload_n K dX4_setOrdered_0 rfl rfl rfl ?_
  refine t_geta K fd_X4_9_0 rfl dX4_setOrdered_1 ?_
  refine j_sipush K dX4_setOrdered_4 (by decide +kernel) ?_
  refine j_iconst K dX4_setOrdered_7 ?_
  refine z_iload_n K dX4_setOrdered_8 rfl rfl ?_
  refine j_imul K dX4_setOrdered_9 ?_
  refine j_iadd K dX4_setOrdered_10 ?_
  refine z_iload_n K dX4_setOrdered_11 rfl rfl ?_
  refine j_iadd K dX4_setOrdered_12 ?_
  refine z_iload_n K dX4_setOrdered_13 rfl rfl ?_
  refine t_ist K 0 203 rfl rfl rfl (by omega) (by omega) rfl dX4_setOrdered_14 ?_
  exact t_vret K (Nat.le_refl _) (Nat.le_refl _) (rfl) dX4_setOrdered_15
theorem tw_sequence {w : tW} {m p : Int} (h0 : 0 ≤ 22 + 4 * m + p) (h1 : 22 + 4 * m + p < 203) : tMi yX4_sequence cX4_sequence 3 .int 1 [.int (iI m), .int (iI p)] w (fun v w' => v = w 0 (22 + 4 * m + p).toNat ∧ w' = w) := by
  refine zMet.of (by decide) (Nat.le_of_ble_eq_true rfl) fun X K => ?_
  refine z_aload_n K dX4_sequence_0 rfl rfl rfl ?_
  refine t_geta K fd_X4_9_0 rfl dX4_sequence_1 ?_
  refine j_bipush K dX4_sequence_4 (by decide +kernel) ?_
  refine j_iconst K dX4_sequence_6 ?_
  refine z_iload_n K dX4_sequence_7 rfl rfl ?_
  refine j_imul K dX4_sequence_8 ?_
  refine j_iadd K dX4_sequence_9 ?_
  refine z_iload_n K dX4_sequence_10 rfl rfl ?_
  refine j_iadd K dX4_sequence_11 ?_
  refine t_ild K 0 203 rfl rfl rfl (by omega) (by omega) rfl dX4_sequence_12 ?_
  exact t_iret K (Nat.le_refl _) (Nat.le_refl _) (⟨rfl, rfl⟩) dX4_sequence_13
theorem tw_setup {w : tW} {a b : Int} (ha : 0 ≤ a ∧ a < 20) (hb : 0 ≤ b ∧ b < 20) (h0 : 0 ≤ 142 + 3 * w 0 (102 + a).toNat + w 0 (102 + b).toNat) (h1 : 142 + 3 * w 0 (102 + a).toNat + w 0 (102 + b).toNat < 203) : tMi yX4_setup cX4_setup 3 .int 1 [.int (iI a), .int (iI b)] w (fun v w' => v = w 0 (142 + 3 * w 0 (102 + a).toNat + w 0 (102 + b).toNat).toNat ∧ w' = w) := by
  refine zMet.of (by decide) (Nat.le_of_ble_eq_true rfl) fun X K => ?_
  refine z_aload_n K dX4_setup_0 rfl rfl rfl ?_
  refine t_geta K fd_X4_9_0 rfl dX4_setup_1 ?_
  refine j_sipush K dX4_setup_4 (by decide +kernel) ?_
  refine j_iconst K dX4_setup_7 ?_
  refine z_aload_n K dX4_setup_8 rfl rfl rfl ?_
  refine t_geta K fd_X4_9_0 rfl dX4_setup_9 ?_
  refine j_bipush K dX4_setup_12 (by decide +kernel) ?_
  refine z_iload_n K dX4_setup_14 rfl rfl ?_
  refine j_iadd K dX4_setup_15 ?_
  refine t_ild K 0 203 rfl rfl rfl (by omega) (by omega) rfl dX4_setup_16 ?_
  refine j_imul K dX4_setup_17 ?_
  refine j_iadd K dX4_setup_18 ?_
  refine z_aload_n K dX4_setup_19 rfl rfl rfl ?_
  refine t_geta K fd_X4_9_0 rfl dX4_setup_20 ?_
  refine j_bipush K dX4_setup_23 (by decide +kernel) ?_
  refine z_iload_n K dX4_setup_25 rfl rfl ?_
  refine j_iadd K dX4_setup_26 ?_
  refine t_ild K 0 203 rfl rfl rfl (by omega) (by omega) rfl dX4_setup_27 ?_
  refine j_iadd K dX4_setup_28 ?_
  refine t_ild K 0 203 rfl rfl rfl (by omega) (by omega) rfl dX4_setup_29 ?_
  exact t_iret K (Nat.le_refl _) (Nat.le_refl _) (⟨rfl, rfl⟩) dX4_setup_30
/-- may the value stand as a job's property: release, due, weight -/
def jpOk (a v : Int) : Prop := if a = 0 then 0 ≤ v ∧ v ≤ 99 else if a = 1 then 0 ≤ v ∧ v ≤ 200 else 0 ≤ v ∧ v ≤ 9
noncomputable def bP (p : Prop) : Int := @ite _ p (Classical.propDecidable p) 1 0
theorem bP_t {p : Prop} (h : p) : bP p = 1 := by unfold bP; exact if_pos h
theorem bP_f {p : Prop} (h : ¬ p) : bP p = 0 := by unfold bP; exact if_neg h
theorem bP_ne {p : Prop} : bP p ≠ 0 ↔ p := by
  by_cases h : p
  · rw [bP_t h]; simp [h]
  · rw [bP_f h]; simp [h]
theorem bP_eq {p : Prop} : bP p = 0 ↔ ¬ p := by
  by_cases h : p
  · rw [bP_t h]; simp [h]
  · rw [bP_f h]; simp [h]
theorem bP_01 (p : Prop) : bP p = 0 ∨ bP p = 1 := by
  by_cases h : p
  · exact Or.inr (bP_t h)
  · exact Or.inl (bP_f h)
theorem bP_r (p : Prop) : -2147483648 ≤ bP p ∧ bP p ≤ 2147483647 := by rcases bP_01 p with h | h <;> omega
theorem bI_bP {p : Prop} [Decidable p] {q : Prop} (h : p ↔ q) : bI p = bP q := by
  unfold bI
  split
  · next hp => exact (bP_t (h.mp hp)).symm
  · next hp => exact (bP_f (fun e => hp (h.mpr e))).symm
theorem s_isJobProperty {a v : Int} (ha : -2147483648 ≤ a ∧ a ≤ 2147483647) (hv : -2147483648 ≤ v ∧ v ≤ 2147483647) : zMs yX4_isJobProperty cX4_isJobProperty 2 .boolean 2 [.int (iI a), .int (iI v)] (bP (jpOk a v)) := by
  intro h
  refine zMet.of (by decide) (Nat.le_of_ble_eq_true rfl) fun X K => ?_
  refine z_iload_n K dX4_isJobProperty_0 rfl rfl ?_
  refine j_if_ne (tgt := 16) K dX4_isJobProperty_1 rfl (by omega) (fun c_1 => ?_) (fun c_1 => ?_)
  · refine z_iload_n K dX4_isJobProperty_16 rfl rfl ?_
    refine j_iconst K dX4_isJobProperty_17 ?_
    refine j_icmp_ne (tgt := 33) K dX4_isJobProperty_18 rfl (by omega) (by omega) (fun c_18 => ?_) (fun c_18 => ?_)
    · refine z_iload_n K dX4_isJobProperty_33 rfl rfl ?_
      refine j_i2l K (by omega) dX4_isJobProperty_34 ?_
      refine j_lconst0 K dX4_isJobProperty_35 ?_
      refine j_ldc2 K 9 q1925 (by decide +kernel) dX4_isJobProperty_36 ?_
      refine z_calls K (s_in (by omega) (by omega) (by omega)) cS_X4_82 rfl rfl (by decide) (Nat.le_of_ble_eq_true rfl) (Nat.le_refl _) (Nat.le_refl _) dX4_isJobProperty_39 ?_
      exact s_zret K (b01 _) (Nat.le_refl _) (Nat.le_refl _) (bI_bP (by unfold jpOk; simp [*])) dX4_isJobProperty_42
    · refine z_iload_n K dX4_isJobProperty_21 rfl rfl ?_
      refine j_i2l K (by omega) dX4_isJobProperty_22 ?_
      refine j_lconst0 K dX4_isJobProperty_23 ?_
      refine j_ldc2 K 200 q1924 (by decide +kernel) dX4_isJobProperty_24 ?_
      refine z_calls K (s_in (by omega) (by omega) (by omega)) cS_X4_82 rfl rfl (by decide) (Nat.le_of_ble_eq_true rfl) (Nat.le_refl _) (Nat.le_refl _) dX4_isJobProperty_27 ?_
      refine z_goto (tgt := 42) K dX4_isJobProperty_30 rfl ?_
      exact s_zret K (b01 _) (Nat.le_refl _) (Nat.le_refl _) (bI_bP (by unfold jpOk; simp [*])) dX4_isJobProperty_42
  · refine z_iload_n K dX4_isJobProperty_4 rfl rfl ?_
    refine j_i2l K (by omega) dX4_isJobProperty_5 ?_
    refine j_lconst0 K dX4_isJobProperty_6 ?_
    refine j_ldc2 K 99 q1920 (by decide +kernel) dX4_isJobProperty_7 ?_
    refine z_calls K (s_in (by omega) (by omega) (by omega)) cS_X4_82 rfl rfl (by decide) (Nat.le_of_ble_eq_true rfl) (Nat.le_refl _) (Nat.le_refl _) dX4_isJobProperty_10 ?_
    refine z_goto (tgt := 42) K dX4_isJobProperty_13 rfl ?_
    exact s_zret K (b01 _) (Nat.le_refl _) (Nat.le_refl _) (bI_bP (by unfold jpOk; simp [*])) dX4_isJobProperty_42
theorem s_areJobProperties {a b c : Int} (ha : -2147483648 ≤ a ∧ a ≤ 2147483647) (hb : -2147483648 ≤ b ∧ b ≤ 2147483647) (hc : -2147483648 ≤ c ∧ c ≤ 2147483647) : zMs yX4_areJobProperties cX4_areJobProperties 3 .boolean 3 [.int (iI a), .int (iI b), .int (iI c)] (bP (jpOk 0 a ∧ jpOk 1 b ∧ jpOk 2 c)) := by
  intro h
  refine zMet.of (by decide) (Nat.le_of_ble_eq_true rfl) fun X K => ?_
  refine j_iconst K dX4_areJobProperties_0 ?_
  refine z_iload_n K dX4_areJobProperties_1 rfl rfl ?_
  refine z_calls K (s_isJobProperty (by omega) (by omega)) cS_X4_94 rfl rfl (by decide) (Nat.le_of_ble_eq_true rfl) (Nat.le_refl _) (Nat.le_refl _) dX4_areJobProperties_2 ?_
  refine j_if_eq (tgt := 28) K dX4_areJobProperties_5 rfl (bP_r _) (fun c_5 => ?_) (fun c_5 => ?_)
  · refine j_iconst K dX4_areJobProperties_28 ?_
    exact s_zret K (by omega) (Nat.le_refl _) (Nat.le_refl _) (by (try simp only [bP_eq, bP_ne, ne_eq, Classical.not_not] at *); first | exact (bP_t ⟨by assumption, by assumption, by assumption⟩).symm | exact (bP_f (by simp [*])).symm) dX4_areJobProperties_29
  · refine j_iconst K dX4_areJobProperties_8 ?_
    refine z_iload_n K dX4_areJobProperties_9 rfl rfl ?_
    refine z_calls K (s_isJobProperty (by omega) (by omega)) cS_X4_94 rfl rfl (by decide) (Nat.le_of_ble_eq_true rfl) (Nat.le_refl _) (Nat.le_refl _) dX4_areJobProperties_10 ?_
    refine j_if_eq (tgt := 28) K dX4_areJobProperties_13 rfl (bP_r _) (fun c_13 => ?_) (fun c_13 => ?_)
    · refine j_iconst K dX4_areJobProperties_28 ?_
      exact s_zret K (by omega) (Nat.le_refl _) (Nat.le_refl _) (by (try simp only [bP_eq, bP_ne, ne_eq, Classical.not_not] at *); first | exact (bP_t ⟨by assumption, by assumption, by assumption⟩).symm | exact (bP_f (by simp [*])).symm) dX4_areJobProperties_29
    · refine j_iconst K dX4_areJobProperties_16 ?_
      refine z_iload_n K dX4_areJobProperties_17 rfl rfl ?_
      refine z_calls K (s_isJobProperty (by omega) (by omega)) cS_X4_94 rfl rfl (by decide) (Nat.le_of_ble_eq_true rfl) (Nat.le_refl _) (Nat.le_refl _) dX4_areJobProperties_18 ?_
      refine j_if_eq (tgt := 28) K dX4_areJobProperties_21 rfl (bP_r _) (fun c_21 => ?_) (fun c_21 => ?_)
      · refine j_iconst K dX4_areJobProperties_28 ?_
        exact s_zret K (by omega) (Nat.le_refl _) (Nat.le_refl _) (by (try simp only [bP_eq, bP_ne, ne_eq, Classical.not_not] at *); first | exact (bP_t ⟨by assumption, by assumption, by assumption⟩).symm | exact (bP_f (by simp [*])).symm) dX4_areJobProperties_29
      · refine j_iconst K dX4_areJobProperties_24 ?_
        refine z_goto (tgt := 29) K dX4_areJobProperties_25 rfl ?_
        exact s_zret K (by omega) (Nat.le_refl _) (Nat.le_refl _) (by (try simp only [bP_eq, bP_ne, ne_eq, Classical.not_not] at *); first | exact (bP_t ⟨by assumption, by assumption, by assumption⟩).symm | exact (bP_f (by simp [*])).symm) dX4_areJobProperties_29
theorem s_areProperties {a b : Int} (ha : -2147483648 ≤ a ∧ a ≤ 2147483647) (hb : -2147483648 ≤ b ∧ b ≤ 2147483647) : zMs yX4_areProperties cX4_areProperties 2 .boolean 2 [.int (iI a), .int (iI b)] (bI ((1 ≤ a ∧ a ≤ 30) ∧ 0 ≤ b ∧ b ≤ 2)) := by
  intro h
  refine zMet.of (by decide) (Nat.le_of_ble_eq_true rfl) fun X K => ?_
  refine z_iload_n K dX4_areProperties_0 rfl rfl ?_
  refine j_i2l K (by omega) dX4_areProperties_1 ?_
  refine j_lconst1 K dX4_areProperties_2 ?_
  refine j_ldc2 K 30 q1945 (by decide +kernel) dX4_areProperties_3 ?_
  refine z_calls K (s_in (by omega) (by omega) (by omega)) cS_X4_82 rfl rfl (by decide) (Nat.le_of_ble_eq_true rfl) (Nat.le_refl _) (Nat.le_refl _) dX4_areProperties_6 ?_
  refine j_if_eq (tgt := 28) K dX4_areProperties_9 rfl (b01r _) (fun c_9 => ?_) (fun c_9 => ?_)
  · refine j_iconst K dX4_areProperties_28 ?_
    exact s_zret K (by omega) (Nat.le_refl _) (Nat.le_refl _) (by simp only [bI_eq, bI_ne, ne_eq] at *; unfold bI; split <;> omega) dX4_areProperties_29
  · refine z_iload_n K dX4_areProperties_12 rfl rfl ?_
    refine j_i2l K (by omega) dX4_areProperties_13 ?_
    refine j_lconst0 K dX4_areProperties_14 ?_
    refine j_ldc2 K 2 q1946 (by decide +kernel) dX4_areProperties_15 ?_
    refine z_calls K (s_in (by omega) (by omega) (by omega)) cS_X4_82 rfl rfl (by decide) (Nat.le_of_ble_eq_true rfl) (Nat.le_refl _) (Nat.le_refl _) dX4_areProperties_18 ?_
    refine j_if_eq (tgt := 28) K dX4_areProperties_21 rfl (b01r _) (fun c_21 => ?_) (fun c_21 => ?_)
    · refine j_iconst K dX4_areProperties_28 ?_
      exact s_zret K (by omega) (Nat.le_refl _) (Nat.le_refl _) (by simp only [bI_eq, bI_ne, ne_eq] at *; unfold bI; split <;> omega) dX4_areProperties_29
    · refine j_iconst K dX4_areProperties_24 ?_
      refine z_goto (tgt := 29) K dX4_areProperties_25 rfl ?_
      exact s_zret K (by omega) (Nat.le_refl _) (Nat.le_refl _) (by simp only [bI_eq, bI_ne, ne_eq] at *; unfold bI; split <;> omega) dX4_areProperties_29
/-- what is read behind a store -/
theorem tset_f {w : tW} {f g i j : Nat} {v : Int} (h : g ≠ f) : tset w f i v g j = w g j := by simp [tset, h]
theorem tset_i {w : tW} {f i j : Nat} {v : Int} (h : j ≠ i) : tset w f i v f j = w f j := by simp [tset, h]
theorem tset_s {w : tW} {f i : Nat} {v : Int} : tset w f i v f i = v := by simp [tset]
/-- createJob -/
def wJob (w : tW) (a b c : Int) : tW := tset (tset (tset (tset (tset w 0 (2 + w 0 0).toNat a) 0 (7 + w 0 0).toNat b) 0 (12 + w 0 0).toNat c) 0 (17 + w 0 0).toNat 0) 0 0 (w 0 0 + 1)
theorem tw_createJob {w : tW} {a b c : Int} (h0 : 0 ≤ w 0 0 ∧ w 0 0 < 5) : tMi yX4_createJob cX4_createJob 5 .int 2 [.int (iI a), .int (iI b), .int (iI c)] w (fun v w' => v = w 0 0 ∧ w' = wJob w a b c) := by
  refine zMet.of (by decide) (Nat.le_of_ble_eq_true rfl) fun X K => ?_
  have e0 : (0 : Int).toNat = 0 := rfl
  refine z_aload_n K dX4_createJob_0 rfl rfl rfl ?_
  refine t_geta K fd_X4_9_0 rfl dX4_createJob_1 ?_
  refine j_iconst K dX4_createJob_4 ?_
  refine t_ild K 0 203 rfl rfl rfl (by omega) (by omega) rfl dX4_createJob_5 ?_
  rw [e0]
  refine z_istore K dX4_createJob_6 (by decide) rfl ?_
  refine z_aload_n K dX4_createJob_8 rfl rfl rfl ?_
  refine t_geta K fd_X4_9_0 rfl dX4_createJob_9 ?_
  refine j_iconst K dX4_createJob_12 ?_
  refine z_iload K dX4_createJob_13 rfl ?_
  refine j_iadd K dX4_createJob_15 ?_
  refine z_iload_n K dX4_createJob_16 rfl rfl ?_
  refine t_ist K 0 203 rfl rfl rfl (by omega) (by omega) rfl dX4_createJob_17 ?_
  refine z_aload_n K dX4_createJob_18 rfl rfl rfl ?_
  refine t_geta K fd_X4_9_0 rfl dX4_createJob_19 ?_
  refine j_bipush K dX4_createJob_22 (by decide +kernel) ?_
  refine z_iload K dX4_createJob_24 rfl ?_
  refine j_iadd K dX4_createJob_26 ?_
  refine z_iload_n K dX4_createJob_27 rfl rfl ?_
  refine t_ist K 0 203 rfl rfl rfl (by omega) (by omega) rfl dX4_createJob_28 ?_
  refine z_aload_n K dX4_createJob_29 rfl rfl rfl ?_
  refine t_geta K fd_X4_9_0 rfl dX4_createJob_30 ?_
  refine j_bipush K dX4_createJob_33 (by decide +kernel) ?_
  refine z_iload K dX4_createJob_35 rfl ?_
  refine j_iadd K dX4_createJob_37 ?_
  refine z_iload_n K dX4_createJob_38 rfl rfl ?_
  refine t_ist K 0 203 rfl rfl rfl (by omega) (by omega) rfl dX4_createJob_39 ?_
  refine z_aload_n K dX4_createJob_40 rfl rfl rfl ?_
  refine t_geta K fd_X4_9_0 rfl dX4_createJob_41 ?_
  refine j_bipush K dX4_createJob_44 (by decide +kernel) ?_
  refine z_iload K dX4_createJob_46 rfl ?_
  refine j_iadd K dX4_createJob_48 ?_
  refine j_iconst K dX4_createJob_49 ?_
  refine t_ist K 0 203 rfl rfl rfl (by omega) (by omega) rfl dX4_createJob_50 ?_
  refine z_aload_n K dX4_createJob_51 rfl rfl rfl ?_
  refine t_geta K fd_X4_9_0 rfl dX4_createJob_52 ?_
  refine j_iconst K dX4_createJob_55 ?_
  refine z_dup2 K dX4_createJob_56 rfl rfl ?_
  refine t_ild K 0 203 rfl rfl rfl (by omega) (by omega) rfl dX4_createJob_57 ?_
  refine j_iconst K dX4_createJob_58 ?_
  refine j_iadd K dX4_createJob_59 ?_
  refine t_ist K 0 203 rfl rfl rfl (by omega) (by omega) rfl dX4_createJob_60 ?_
  refine z_iload K dX4_createJob_61 rfl ?_
  exact t_iret K (Nat.le_refl _) (Nat.le_refl _) (⟨rfl, by unfold wJob; rw [e0]; congr 2; rw [tset_i (by omega), tset_i (by omega), tset_i (by omega), tset_i (by omega)]⟩) dX4_createJob_63
/-- a public method's end: it has thrown t, or answers v0 in the world w0 -/
def pub (w : tW) (t v0 : Int) (w0 v' : tW) (v : Int) : Prop := (t = 0 → v = v0 ∧ v' = w0) ∧ (t ≠ 0 → v' = tset w 3 0 t)
noncomputable def tcAddJob (w : tW) (a b c : Int) : Int := if bP (jpOk 0 a ∧ jpOk 1 b ∧ jpOk 2 c) = 0 then 1 else if w 0 0 = 5 then 2 else 0
theorem tw_addJob {w : tW} {a b c : Int} (ha : -2147483648 ≤ a ∧ a ≤ 2147483647) (hb : -2147483648 ≤ b ∧ b ≤ 2147483647) (hc : -2147483648 ≤ c ∧ c ≤ 2147483647) (h0 : 0 ≤ w 0 0 ∧ w 0 0 ≤ 5) : tMi yX4_addJob cX4_addJob 4 .int 4 [.int (iI a), .int (iI b), .int (iI c)] w (fun v w' => pub w (tcAddJob w a b c) (w 0 0) (wJob (tset w 3 0 0) a b c) w' v) := by
  refine zMet.of (by decide) (Nat.le_of_ble_eq_true rfl) fun X K => ?_
  have e0 : (0 : Int).toNat = 0 := rfl
  have tail : ∀ t : Int, t = tcAddJob w a b c → 0 ≤ t ∧ t ≤ 2 → (t = 0 → w 0 0 < 5) → ∀ env, zsub env [(0, .ref 1000), (1, .int (iI a)), (2, .int (iI b)), (3, .int (iI c))] → zW X (zPi fun x h' => ∃ v w', x = iI v ∧ h' = tH w' ∧ pub w (tcAddJob w a b c) (w 0 0) (wJob (tset w 3 0 0) a b c) w' v) (tH w) 0 0 29 env [.int (iI t), .ref 1000] := by
    intro t ht hr h5 env he
    refine zW.cut he ?_
    refine t_puti K fd_X4_79_0 ⟨_, rfl, Or.inl rfl⟩ (by decide) rfl rfl dX4_addJob_29 ?_
    refine z_aload_n K dX4_addJob_32 rfl rfl rfl ?_
    refine t_geti K fd_X4_79_0 (by decide) rfl dX4_addJob_33 ?_
    refine j_if_le (tgt := 43) K dX4_addJob_36 rfl (by rw [tset_s]; omega) (fun c_36 => ?_) (fun c_36 => ?_)
    · rw [tset_s] at c_36
      obtain rfl : t = 0 := by omega
      refine z_aload_n K dX4_addJob_43 rfl rfl rfl ?_
      refine z_iload_n K dX4_addJob_44 rfl rfl ?_
      refine z_iload_n K dX4_addJob_45 rfl rfl ?_
      refine z_iload_n K dX4_addJob_46 rfl rfl ?_
      refine t_calli K (tw_createJob (by rw [tset_f (by decide)]; omega)) cV_X4_102_X4 rfl rfl (by decide) (Nat.le_of_ble_eq_true rfl) (Nat.le_refl _) (Nat.le_refl _) dX4_addJob_47 ?_
      rintro _ _ ⟨rfl, rfl⟩
      exact t_iret K (Nat.le_refl _) (Nat.le_refl _) (⟨fun q => by first | exact ⟨tset_f (by decide), rfl⟩ | omega, fun q => by first | exact absurd ht.symm q | rw [ht]⟩) dX4_addJob_50
    · rw [tset_s] at c_36
      refine j_iconst K dX4_addJob_39 ?_
      refine z_goto (tgt := 50) K dX4_addJob_40 rfl ?_
      exact t_iret K (Nat.le_refl _) (Nat.le_refl _) (⟨fun q => by first | exact ⟨tset_f (by decide), rfl⟩ | omega, fun q => by first | exact absurd ht.symm q | rw [ht]⟩) dX4_addJob_50
  refine z_aload_n K dX4_addJob_0 rfl rfl rfl ?_
  refine z_iload_n K dX4_addJob_1 rfl rfl ?_
  refine z_iload_n K dX4_addJob_2 rfl rfl ?_
  refine z_iload_n K dX4_addJob_3 rfl rfl ?_
  refine z_calls K (s_areJobProperties (by omega) (by omega) (by omega)) cS_X4_98 rfl rfl (by decide) (Nat.le_of_ble_eq_true rfl) (Nat.le_refl _) (Nat.le_refl _) dX4_addJob_4 ?_
  refine j_if_ne (tgt := 14) K dX4_addJob_7 rfl (bP_r _) (fun c_7 => ?_) (fun c_7 => ?_)
  · refine z_aload_n K dX4_addJob_14 rfl rfl rfl ?_
    refine t_geta K fd_X4_9_0 rfl dX4_addJob_15 ?_
    refine j_iconst K dX4_addJob_18 ?_
    refine t_ild K 0 203 rfl rfl rfl (by omega) (by omega) rfl dX4_addJob_19 ?_
    rw [e0]
    refine j_iconst K dX4_addJob_20 ?_
    refine j_icmp_ne (tgt := 28) K dX4_addJob_21 rfl (by omega) (by omega) (fun c_21 => ?_) (fun c_21 => ?_)
    · refine j_iconst K dX4_addJob_28 ?_
      exact tail _ (by unfold tcAddJob; simp [*]) (by omega) (by omega) _ ⟨rfl, rfl, rfl, rfl, trivial⟩
    · refine j_iconst K dX4_addJob_24 ?_
      refine z_goto (tgt := 29) K dX4_addJob_25 rfl ?_
      exact tail _ (by unfold tcAddJob; simp [*]) (by omega) (by omega) _ ⟨rfl, rfl, rfl, rfl, trivial⟩
  · refine j_iconst K dX4_addJob_10 ?_
    refine z_goto (tgt := 29) K dX4_addJob_11 rfl ?_
    exact tail _ (by unfold tcAddJob; simp [*]) (by omega) (by omega) _ ⟨rfl, rfl, rfl, rfl, trivial⟩
/-- has the job a step on the machine, among its first n -/
def hasM (s : Nat → Int) (j m : Int) : Nat → Prop
  | 0 => False
  | n + 1 => hasM s j m n ∨ s (62 + s (22 + 4 * j + n).toNat).toNat = m
theorem tw_hasMachine {w : tW} {j m : Int} (hj : 0 ≤ j ∧ j < 5) (hm : 0 ≤ m ∧ m < 4) (hl : 0 ≤ w 0 (17 + j).toNat ∧ w 0 (17 + j).toNat ≤ 4) (hs : ∀ i : Nat, (i : Int) < w 0 (17 + j).toNat → 0 ≤ w 0 (22 + 4 * j + i).toNat ∧ w 0 (22 + 4 * j + i).toNat < 20) (hmm : ∀ i : Nat, (i : Int) < w 0 (17 + j).toNat → 0 ≤ w 0 (62 + w 0 (22 + 4 * j + i).toNat).toNat ∧ w 0 (62 + w 0 (22 + 4 * j + i).toNat).toNat ≤ 3) : tMi yX4_hasMachine cX4_hasMachine 5 .boolean 2 [.int (iI j), .int (iI m)] w (fun v w' => v = bP (hasM (w 0) j m (w 0 (17 + j).toNat).toNat) ∧ w' = w) := by
  refine zMet.of (by decide) (Nat.le_of_ble_eq_true rfl) fun X K => ?_
  have loop : ∀ (n i : Nat), (i : Int) + n = w 0 (17 + j).toNat → ∀ env, zsub env [(0, .ref 1000), (1, .int (iI j)), (2, .int (iI m)), (3, .int (iI (bP (hasM (w 0) j m i)))), (4, .int (iI i))] → zW X (zPi fun x h' => ∃ v w', x = iI v ∧ h' = tH w' ∧ (v = bP (hasM (w 0) j m (w 0 (17 + j).toNat).toNat) ∧ w' = w)) (tH w) 0 0 5 env [] := by
    intro n
    induction n with
    | zero =>
      intro i hi env he
      refine zW.cut he ?_
      have h9 := bP_r (hasM (w 0) j m i)
      refine z_iload K dX4_hasMachine_5 rfl ?_
      refine z_aload_n K dX4_hasMachine_7 rfl rfl rfl ?_
      refine t_geta K fd_X4_9_0 rfl dX4_hasMachine_8 ?_
      refine j_bipush K dX4_hasMachine_11 (by decide +kernel) ?_
      refine z_iload_n K dX4_hasMachine_13 rfl rfl ?_
      refine j_iadd K dX4_hasMachine_14 ?_
      refine t_ild K 0 203 rfl rfl rfl (by omega) (by omega) rfl dX4_hasMachine_15 ?_
      refine j_icmp_ge (tgt := 54) K dX4_hasMachine_16 rfl (by omega) (by omega) (fun c_16 => ?_) (fun c_16 => ?_)
      · refine z_iload_n K dX4_hasMachine_54 rfl rfl ?_
        exact t_zret K (bP_01 _) (Nat.le_refl _) (Nat.le_refl _) (⟨by rw [show (w 0 (17 + j).toNat).toNat = i by omega], rfl⟩) dX4_hasMachine_55
      · exact absurd c_16 (by omega)
    | succ n ih =>
      intro i hi env he
      refine zW.cut he ?_
      have h9 := bP_r (hasM (w 0) j m i)
      have h7 := hs i (by omega)
      have h8 := hmm i (by omega)
      refine z_iload K dX4_hasMachine_5 rfl ?_
      refine z_aload_n K dX4_hasMachine_7 rfl rfl rfl ?_
      refine t_geta K fd_X4_9_0 rfl dX4_hasMachine_8 ?_
      refine j_bipush K dX4_hasMachine_11 (by decide +kernel) ?_
      refine z_iload_n K dX4_hasMachine_13 rfl rfl ?_
      refine j_iadd K dX4_hasMachine_14 ?_
      refine t_ild K 0 203 rfl rfl rfl (by omega) (by omega) rfl dX4_hasMachine_15 ?_
      refine j_icmp_ge (tgt := 54) K dX4_hasMachine_16 rfl (by omega) (by omega) (fun c_16 => ?_) (fun c_16 => ?_)
      · exact absurd c_16 (by omega)
      · refine z_iload_n K dX4_hasMachine_19 rfl rfl ?_
        refine j_if_ne (tgt := 42) K dX4_hasMachine_20 rfl (by omega) (fun c_20 => ?_) (fun c_20 => ?_)
        · refine j_iconst K dX4_hasMachine_42 ?_
          refine z_goto (tgt := 47) K dX4_hasMachine_43 rfl ?_
          refine z_istore_n K dX4_hasMachine_47 rfl (by decide) rfl ?_
          refine j_iinc K dX4_hasMachine_48 rfl (by decide) rfl ?_
          refine z_goto (tgt := 5) K dX4_hasMachine_51 rfl ?_
          exact ih (i + 1) (by omega) _ ⟨rfl, rfl, rfl, by rw [show bP (hasM (w 0) j m (i + 1)) = _ from by first | exact bP_t (Or.inl (bP_ne.mp c_20)) | exact bP_t (Or.inr c_39) | exact bP_f (fun q => q.elim (bP_eq.mp c_20) c_39)]; rfl, rfl, trivial⟩
        · refine z_aload_n K dX4_hasMachine_23 rfl rfl rfl ?_
          refine t_geta K fd_X4_9_0 rfl dX4_hasMachine_24 ?_
          refine j_bipush K dX4_hasMachine_27 (by decide +kernel) ?_
          refine z_aload_n K dX4_hasMachine_29 rfl rfl rfl ?_
          refine z_iload_n K dX4_hasMachine_30 rfl rfl ?_
          refine z_iload K dX4_hasMachine_31 rfl ?_
          refine t_callp K (tw_sequence (by omega) (by omega)) cV_X4_110_X4 rfl rfl (by decide) (Nat.le_of_ble_eq_true rfl) (Nat.le_refl _) (Nat.le_refl _) dX4_hasMachine_33 ?_
          refine j_iadd K dX4_hasMachine_36 ?_
          refine t_ild K 0 203 rfl rfl rfl (by omega) (by omega) rfl dX4_hasMachine_37 ?_
          refine z_iload_n K dX4_hasMachine_38 rfl rfl ?_
          refine j_icmp_ne (tgt := 46) K dX4_hasMachine_39 rfl (by omega) (by omega) (fun c_39 => ?_) (fun c_39 => ?_)
          · refine j_iconst K dX4_hasMachine_46 ?_
            refine z_istore_n K dX4_hasMachine_47 rfl (by decide) rfl ?_
            refine j_iinc K dX4_hasMachine_48 rfl (by decide) rfl ?_
            refine z_goto (tgt := 5) K dX4_hasMachine_51 rfl ?_
            exact ih (i + 1) (by omega) _ ⟨rfl, rfl, rfl, by rw [show bP (hasM (w 0) j m (i + 1)) = _ from by first | exact bP_t (Or.inl (bP_ne.mp c_20)) | exact bP_t (Or.inr c_39) | exact bP_f (fun q => q.elim (bP_eq.mp c_20) c_39)]; rfl, rfl, trivial⟩
          · refine j_iconst K dX4_hasMachine_42 ?_
            refine z_goto (tgt := 47) K dX4_hasMachine_43 rfl ?_
            refine z_istore_n K dX4_hasMachine_47 rfl (by decide) rfl ?_
            refine j_iinc K dX4_hasMachine_48 rfl (by decide) rfl ?_
            refine z_goto (tgt := 5) K dX4_hasMachine_51 rfl ?_
            exact ih (i + 1) (by omega) _ ⟨rfl, rfl, rfl, by rw [show bP (hasM (w 0) j m (i + 1)) = _ from by first | exact bP_t (Or.inl (bP_ne.mp c_20)) | exact bP_t (Or.inr c_39) | exact bP_f (fun q => q.elim (bP_eq.mp c_20) c_39)]; rfl, rfl, trivial⟩
  refine j_iconst K dX4_hasMachine_0 ?_
  refine z_istore_n K dX4_hasMachine_1 rfl (by decide) rfl ?_
  refine j_iconst K dX4_hasMachine_2 ?_
  refine z_istore K dX4_hasMachine_3 (by decide) rfl ?_
  exact loop (w 0 (17 + j).toNat).toNat 0 (by omega) _ ⟨rfl, rfl, rfl, by rw [show bP (hasM (w 0) j m 0) = 0 from bP_f id]; rfl, rfl, trivial⟩

