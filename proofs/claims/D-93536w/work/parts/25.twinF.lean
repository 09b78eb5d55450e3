/-! ===== the reference: questions about the schedule ===== -/
def pubQ (w : tW) (t : Int) (P : Int → tW → Prop) (v : Int) (w' : tW) : Prop := (t = 0 → P v w') ∧ (t ≠ 0 → w' = tset w 3 0 t)
/-- what holds of the reference between calls -/
def TI (w : tW) : Prop := WfA (w 0) ∧ WfO (w 0) ∧ (∀ m : Nat, m < 4 → w 13 m = 0) ∧ w 14 0 = -1 ∧ (0 ≤ w 15 0 ∧ w 15 0 ≤ 3000) ∧ ∀ i : Nat, i < 20 → w 22 i = 0
theorem TI.ho {w : tW} (h : TI w) : ∀ m : Nat, m < 4 → 0 ≤ w 13 m ∧ w 13 m ≤ 1 := fun m hm => by rw [h.2.2.1 m hm]; omega
theorem TI.set {w : tW} (h : TI w) {f i : Nat} {v : Int} (h0 : f ≠ 0) (h1 : f ≠ 13) (h2 : f ≠ 14) (h3 : f ≠ 15) (h4 : f ≠ 22) : TI (tset w f i v) := by
  have e : ∀ g, g ≠ f → tset w f i v g = w g := fun g hg => by funext j; exact tset_f hg
  unfold TI
  rw [e 0 (Ne.symm h0), e 13 (Ne.symm h1), e 14 (Ne.symm h2), e 15 (Ne.symm h3), e 22 (Ne.symm h4)]
  exact h
noncomputable def tcTime (w : tW) (k a : Int) : Int := if ¬ (0 ≤ k ∧ k ≤ w 0 1 - 1) then 1 else if ¬ (0 ≤ a ∧ a ≤ 2) then 2 else 0
theorem tw_time {w : tW} {k a : Int} (hk : -2147483648 ≤ k ∧ k ≤ 2147483647) (ha : -2147483648 ≤ a ∧ a ≤ 2147483647) (hI : TI w) :
    tMi yX4_time cX4_time 4 .int 7 [.int (iI k), .int (iI a)] w (pubQ w (tcTime w k a) (fun v w' => ∃ rd st, w' = wt (tset w 3 0 0) rd st ∧ fT w 500 rd st ∧ v = if a = 0 then rd k.toNat else if a = 1 then st k.toNat else st k.toNat + w 0 (82 + k).toNat)) := by
  refine zMet.of (by decide) (Nat.le_of_ble_eq_true rfl) fun X K => ?_
  have h20 := hI.1.2.1.1
  have tail : ∀ t : Int, t = tcTime w k a → 0 ≤ t ∧ t ≤ 3 → (t = 0 → (0 ≤ k ∧ k < w 0 1) ∧ 0 ≤ a ∧ a ≤ 2) → ∀ env, zsub env [(0, .ref 1000), (1, .int (iI k)), (2, .int (iI a))] → zW X (zPi fun x h' => ∃ v9 w', x = iI v9 ∧ h' = tH w' ∧ pubQ w (tcTime w k a) (fun v w' => ∃ rd st, w' = wt (tset w 3 0 0) rd st ∧ fT w 500 rd st ∧ v = if a = 0 then rd k.toNat else if a = 1 then st k.toNat else st k.toNat + w 0 (82 + k).toNat) v9 w') (tH w) 0 0 30 env [.int (iI t), .ref 1000] := by
    intro t ht hr h5 env he
    refine zW.cut he ?_
    refine t_puti K fd_X4_79_0 ⟨_, rfl, Or.inl rfl⟩ (by decide) rfl rfl dX4_time_30 ?_
    refine z_aload_n K dX4_time_33 rfl rfl rfl ?_
    refine t_geti K fd_X4_79_0 (by decide) rfl dX4_time_34 ?_
    refine j_if_le (tgt := 42) K dX4_time_37 rfl (by rw [tset_s]; omega) (fun c_37 => ?_) (fun c_37 => ?_)
    · rw [tset_s] at c_37
      obtain rfl : t = 0 := by omega
      have h7 := h5 rfl
      refine z_aload_n K dX4_time_42 rfl rfl rfl ?_
      refine t_calli K (tw_findTimes (w := tset w 3 0 0) (bb := 500) (by omega) (Or.inl hI.2.2.2.1) hI.1 hI.2.1 hI.ho (by show -1 ≤ w 14 0 ∧ w 14 0 ≤ 100; rw [hI.2.2.2.1]; omega) hI.2.2.2.2.1) cV_X4_181_X4 rfl rfl (by decide) (Nat.le_of_ble_eq_true rfl) (Nat.le_refl _) (Nat.le_refl _) dX4_time_43 ?_
      rintro _ _ ⟨rd, st, rfl, hT, rfl⟩
      refine z_istore_n K dX4_time_46 rfl (by decide) rfl ?_
      refine z_iload_n K dX4_time_47 rfl rfl ?_
      refine j_if_ne (tgt := 60) K dX4_time_48 rfl (by omega) (fun c_48 => ?_) (fun c_48 => ?_)
      · refine z_iload_n K dX4_time_60 rfl rfl ?_
        refine j_iconst K dX4_time_61 ?_
        refine j_icmp_ne (tgt := 74) K dX4_time_62 rfl (by omega) (by omega) (fun c_62 => ?_) (fun c_62 => ?_)
        · refine z_aload_n K dX4_time_74 rfl rfl rfl ?_
          refine z_iload_n K dX4_time_75 rfl rfl ?_
          refine t_callp K (tw_endOf (by omega)) cV_X4_164_X4 rfl rfl (by decide) (Nat.le_of_ble_eq_true rfl) (Nat.le_refl _) (Nat.le_refl _) dX4_time_76 ?_
          exact t_iret K (Nat.le_refl _) (Nat.le_refl _) (⟨fun q => ⟨rd, st, rfl, hT, by first | (rw [if_pos c_48]; rfl) | (rw [if_neg c_48, if_pos c_62]; rfl) | (rw [if_neg c_48, if_neg c_62]; rfl)⟩, fun q => absurd ht.symm q⟩) dX4_time_79
        · refine z_aload_n K dX4_time_65 rfl rfl rfl ?_
          refine t_geta K fd_X4_29_0 rfl dX4_time_66 ?_
          refine z_iload_n K dX4_time_69 rfl rfl ?_
          refine t_ild K 12 20 rfl rfl rfl (by omega) (by omega) rfl dX4_time_70 ?_
          refine z_goto (tgt := 79) K dX4_time_71 rfl ?_
          exact t_iret K (Nat.le_refl _) (Nat.le_refl _) (⟨fun q => ⟨rd, st, rfl, hT, by first | (rw [if_pos c_48]; rfl) | (rw [if_neg c_48, if_pos c_62]; rfl) | (rw [if_neg c_48, if_neg c_62]; rfl)⟩, fun q => absurd ht.symm q⟩) dX4_time_79
      · refine z_aload_n K dX4_time_51 rfl rfl rfl ?_
        refine t_geta K fd_X4_26_0 rfl dX4_time_52 ?_
        refine z_iload_n K dX4_time_55 rfl rfl ?_
        refine t_ild K 11 20 rfl rfl rfl (by omega) (by omega) rfl dX4_time_56 ?_
        refine z_goto (tgt := 79) K dX4_time_57 rfl ?_
        exact t_iret K (Nat.le_refl _) (Nat.le_refl _) (⟨fun q => ⟨rd, st, rfl, hT, by first | (rw [if_pos c_48]; rfl) | (rw [if_neg c_48, if_pos c_62]; rfl) | (rw [if_neg c_48, if_neg c_62]; rfl)⟩, fun q => absurd ht.symm q⟩) dX4_time_79
    · rw [tset_s] at c_37
      refine j_iconst K dX4_time_40 ?_
      exact t_iret K (Nat.le_refl _) (Nat.le_refl _) (⟨fun q => by omega, fun q => by rw [ht]⟩) dX4_time_41
  refine z_aload_n K dX4_time_0 rfl rfl rfl ?_
  refine z_aload_n K dX4_time_1 rfl rfl rfl ?_
  refine z_iload_n K dX4_time_2 rfl rfl ?_
  refine t_callp K (tw_isOperation (by omega) (by omega)) cV_X4_135_X4 rfl rfl (by decide) (Nat.le_of_ble_eq_true rfl) (Nat.le_refl _) (Nat.le_refl _) dX4_time_3 ?_
  refine j_if_ne (tgt := 13) K dX4_time_6 rfl (b01r _) (fun c_6 => ?_) (fun c_6 => ?_)
  · rw [bI_ne] at c_6
    refine z_iload_n K dX4_time_13 rfl rfl ?_
    refine j_i2l K (by omega) dX4_time_14 ?_
    refine j_lconst0 K dX4_time_15 ?_
    refine j_ldc2 K 2 q1946 (by decide +kernel) dX4_time_16 ?_
    refine z_calls K (s_in (by omega) (by omega) (by omega)) cS_X4_82 rfl rfl (by decide) (Nat.le_of_ble_eq_true rfl) (Nat.le_refl _) (Nat.le_refl _) dX4_time_19 ?_
    refine j_if_ne (tgt := 29) K dX4_time_22 rfl (b01r _) (fun c_22 => ?_) (fun c_22 => ?_)
    · rw [bI_ne] at c_22
      refine j_iconst K dX4_time_29 ?_
      exact tail _ (by unfold tcTime; simp [*]) (by omega) (by omega) _ ⟨rfl, rfl, rfl, trivial⟩
    · rw [bI_eq] at c_22
      refine j_iconst K dX4_time_25 ?_
      refine z_goto (tgt := 30) K dX4_time_26 rfl ?_
      exact tail _ (by unfold tcTime; simp [*]) (by omega) (by omega) _ ⟨rfl, rfl, rfl, trivial⟩
  · rw [bI_eq] at c_6
    refine j_iconst K dX4_time_9 ?_
    refine z_goto (tgt := 30) K dX4_time_10 rfl ?_
    exact tail _ (by unfold tcTime; simp [*]) (by omega) (by omega) _ ⟨rfl, rfl, rfl, trivial⟩
theorem tw_makespan {w : tW} (hI : TI w) : tMi yX4_makespan cX4_makespan 1 .int 7 [] w (fun v w' => ∃ rd st, w' = wt (tset w 3 0 0) rd st ∧ fT w 500 rd st ∧ v = mkS (w 0) st) := by
  refine zMet.of (by decide) (Nat.le_of_ble_eq_true rfl) fun X K => ?_
  refine z_aload_n K dX4_makespan_0 rfl rfl rfl ?_
  refine j_iconst K dX4_makespan_1 ?_
  refine t_puti K fd_X4_79_0 ⟨_, rfl, Or.inl rfl⟩ (by decide) rfl rfl dX4_makespan_2 ?_
  refine z_aload_n K dX4_makespan_5 rfl rfl rfl ?_
  refine t_calli K (tw_makespanNow (w := tset w 3 0 0) (bb := 500) (by omega) (Or.inl hI.2.2.2.1) hI.1 hI.2.1 hI.ho (by show -1 ≤ w 14 0 ∧ w 14 0 ≤ 100; rw [hI.2.2.2.1]; omega) hI.2.2.2.2.1) cV_X4_188_X4 rfl rfl (by decide) (Nat.le_of_ble_eq_true rfl) (Nat.le_refl _) (Nat.le_refl _) dX4_makespan_6 ?_
  rintro _ _ ⟨rd, st, rfl, hT, rfl⟩
  exact t_iret K (Nat.le_refl _) (Nat.le_refl _) (⟨rd, st, rfl, hT, rfl⟩) dX4_makespan_9
/-- when a job is complete -/
def sCo (s st : Nat → Int) (j : Int) : Int := if sLen s j = 0 then sRel s j else st (sSeq s j (sLen s j - 1)).toNat + sDu s (sSeq s j (sLen s j - 1))
theorem tw_completionOf {w : tW} {j : Int} (hA : WfA (w 0)) (hj : 0 ≤ j ∧ j < w 0 0) : tMi yX4_completionOf cX4_completionOf 3 .int 2 [.int (iI j)] w (fun v w' => v = sCo (w 0) (w 12) j ∧ w' = w) := by
  have h4 := (hA.1.2 j hj.1 hj.2).2.2.2
  have h5 := hA.1.1
  have h20 := hA.2.1.1
  have hq : sLen (w 0) j ≠ 0 → 0 ≤ sSeq (w 0) j (sLen (w 0) j - 1) ∧ sSeq (w 0) j (sLen (w 0) j - 1) < w 0 1 := fun q => (hA.2.2.1 j (sLen (w 0) j - 1) hj.1 hj.2 (by omega) (by omega)).1
  (try dsimp only [sRel, sDue, sWt, sLen, sSeq, sJb, sMc, sDu, sFa, sIx, sSu, sBn, sBf, sBl, sOn, sOr] at *)
  refine zMet.of (by decide) (Nat.le_of_ble_eq_true rfl) fun X K => ?_
  refine z_aload_n K dX4_completionOf_0 rfl rfl rfl ?_
  refine t_geta K fd_X4_9_0 rfl dX4_completionOf_1 ?_
  refine j_bipush K dX4_completionOf_4 (by decide +kernel) ?_
  refine z_iload_n K dX4_completionOf_6 rfl rfl ?_
  refine j_iadd K dX4_completionOf_7 ?_
  refine t_ild K 0 203 rfl rfl rfl (by omega) (by omega) rfl dX4_completionOf_8 ?_
  refine z_istore_n K dX4_completionOf_9 rfl (by decide) rfl ?_
  refine z_iload_n K dX4_completionOf_10 rfl rfl ?_
  refine j_if_ne (tgt := 25) K dX4_completionOf_11 rfl (by omega) (fun c_11 => ?_) (fun c_11 => ?_)
  · have h9 := hq c_11
    refine z_aload_n K dX4_completionOf_25 rfl rfl rfl ?_
    refine z_aload_n K dX4_completionOf_26 rfl rfl rfl ?_
    refine z_iload_n K dX4_completionOf_27 rfl rfl ?_
    refine z_iload_n K dX4_completionOf_28 rfl rfl ?_
    refine j_iconst K dX4_completionOf_29 ?_
    refine j_isub K dX4_completionOf_30 ?_
    refine t_callp K (tw_sequence (by omega) (by omega)) cV_X4_110_X4 rfl rfl (by decide) (Nat.le_of_ble_eq_true rfl) (Nat.le_refl _) (Nat.le_refl _) dX4_completionOf_31 ?_
    refine t_callp K (tw_endOf (by omega)) cV_X4_164_X4 rfl rfl (by decide) (Nat.le_of_ble_eq_true rfl) (Nat.le_refl _) (Nat.le_refl _) dX4_completionOf_34 ?_
    exact t_iret K (Nat.le_refl _) (Nat.le_refl _) (⟨by unfold sCo; (try dsimp only [sRel, sDue, sWt, sLen, sSeq, sJb, sMc, sDu, sFa, sIx, sSu, sBn, sBf, sBl, sOn, sOr] at *); first | rw [if_neg c_11] | rw [if_pos c_11], rfl⟩) dX4_completionOf_37
  · refine z_aload_n K dX4_completionOf_14 rfl rfl rfl ?_
    refine t_geta K fd_X4_9_0 rfl dX4_completionOf_15 ?_
    refine j_iconst K dX4_completionOf_18 ?_
    refine z_iload_n K dX4_completionOf_19 rfl rfl ?_
    refine j_iadd K dX4_completionOf_20 ?_
    refine t_ild K 0 203 rfl rfl rfl (by omega) (by omega) rfl dX4_completionOf_21 ?_
    refine z_goto (tgt := 37) K dX4_completionOf_22 rfl ?_
    exact t_iret K (Nat.le_refl _) (Nat.le_refl _) (⟨by unfold sCo; (try dsimp only [sRel, sDue, sWt, sLen, sSeq, sJb, sMc, sDu, sFa, sIx, sSu, sBn, sBf, sBl, sOn, sOr] at *); first | rw [if_neg c_11] | rw [if_pos c_11], rfl⟩) dX4_completionOf_37
noncomputable def tcCompl (w : tW) (j : Int) : Int := if 0 ≤ j ∧ j ≤ w 0 0 - 1 then 0 else 1
theorem tw_completion {w : tW} {j : Int} (hj : -2147483648 ≤ j ∧ j ≤ 2147483647) (hI : TI w) :
    tMi yX4_completion cX4_completion 3 .int 7 [.int (iI j)] w (pubQ w (tcCompl w j) (fun v w' => ∃ rd st, w' = wt (tset w 3 0 0) rd st ∧ fT w 500 rd st ∧ v = sCo (w 0) st j)) := by
  refine zMet.of (by decide) (Nat.le_of_ble_eq_true rfl) fun X K => ?_
  have h5 := hI.1.1.1
  have tail : ∀ t : Int, t = tcCompl w j → 0 ≤ t ∧ t ≤ 3 → (t = 0 → (0 ≤ j ∧ j < w 0 0)) → ∀ env, zsub env [(0, .ref 1000), (1, .int (iI j))] → zW X (zPi fun x h' => ∃ v9 w', x = iI v9 ∧ h' = tH w' ∧ pubQ w (tcCompl w j) (fun v w' => ∃ rd st, w' = wt (tset w 3 0 0) rd st ∧ fT w 500 rd st ∧ v = sCo (w 0) st j) v9 w') (tH w) 0 0 14 env [.int (iI t), .ref 1000] := by
    intro t ht hr h5 env he
    refine zW.cut he ?_
    refine t_puti K fd_X4_79_0 ⟨_, rfl, Or.inl rfl⟩ (by decide) rfl rfl dX4_completion_14 ?_
    refine z_aload_n K dX4_completion_17 rfl rfl rfl ?_
    refine t_geti K fd_X4_79_0 (by decide) rfl dX4_completion_18 ?_
    refine j_if_le (tgt := 26) K dX4_completion_21 rfl (by rw [tset_s]; omega) (fun c_21 => ?_) (fun c_21 => ?_)
    · rw [tset_s] at c_21
      obtain rfl : t = 0 := by omega
      have h7 := h5 rfl
      refine z_aload_n K dX4_completion_26 rfl rfl rfl ?_
      refine t_calli K (tw_findTimes (w := tset w 3 0 0) (bb := 500) (by omega) (Or.inl hI.2.2.2.1) hI.1 hI.2.1 hI.ho (by show -1 ≤ w 14 0 ∧ w 14 0 ≤ 100; rw [hI.2.2.2.1]; omega) hI.2.2.2.2.1) cV_X4_181_X4 rfl rfl (by decide) (Nat.le_of_ble_eq_true rfl) (Nat.le_refl _) (Nat.le_refl _) dX4_completion_27 ?_
      rintro _ _ ⟨rd, st, rfl, hT, rfl⟩
      refine z_istore_n K dX4_completion_30 rfl (by decide) rfl ?_
      refine z_aload_n K dX4_completion_31 rfl rfl rfl ?_
      refine z_iload_n K dX4_completion_32 rfl rfl ?_
      refine t_callp K (tw_completionOf (w := wt (tset w 3 0 0) rd st) hI.1 h7) cV_X4_191_X4 rfl rfl (by decide) (Nat.le_of_ble_eq_true rfl) (Nat.le_refl _) (Nat.le_refl _) dX4_completion_33 ?_
      exact t_iret K (Nat.le_refl _) (Nat.le_refl _) (⟨fun q => ⟨rd, st, rfl, hT, rfl⟩, fun q => absurd ht.symm q⟩) dX4_completion_36
    · rw [tset_s] at c_21
      refine j_iconst K dX4_completion_24 ?_
      exact t_iret K (Nat.le_refl _) (Nat.le_refl _) (⟨fun q => by omega, fun q => by rw [ht]⟩) dX4_completion_25
  refine z_aload_n K dX4_completion_0 rfl rfl rfl ?_
  refine z_aload_n K dX4_completion_1 rfl rfl rfl ?_
  refine z_iload_n K dX4_completion_2 rfl rfl ?_
  refine t_callp K (tw_isJob (by omega) (by omega)) cV_X4_118_X4 rfl rfl (by decide) (Nat.le_of_ble_eq_true rfl) (Nat.le_refl _) (Nat.le_refl _) dX4_completion_3 ?_
  refine j_if_eq (tgt := 13) K dX4_completion_6 rfl (b01r _) (fun c_6 => ?_) (fun c_6 => ?_)
  · rw [bI_eq] at c_6
    refine j_iconst K dX4_completion_13 ?_
    exact tail _ (by unfold tcCompl; simp [*]) (by omega) (by omega) _ ⟨rfl, rfl, trivial⟩
  · rw [bI_ne] at c_6
    refine j_iconst K dX4_completion_9 ?_
    refine z_goto (tgt := 14) K dX4_completion_10 rfl ?_
    exact tail _ (by unfold tcCompl; simp [*]) (by omega) (by omega) _ ⟨rfl, rfl, trivial⟩
/-- the setup times of the first n places of a machine's order, of the first m machines -/
def suM (s : Nat → Int) (m : Int) : Nat → Int
  | 0 => 0
  | 1 => 0
  | n + 2 => suM s m (n + 1) + sSu s (sOr s m n) (sOr s m (n + 1))
def suA (s : Nat → Int) : Nat → Int
  | 0 => 0
  | m + 1 => suA s m + suM s m (sOn s m).toNat
theorem suM_r {s : Nat → Int} (hA : WfA s) (hO : WfO s) {m : Int} (hm : 0 ≤ m ∧ m ≤ 3) : ∀ n : Nat, (n : Int) ≤ sOn s m → 0 ≤ suM s m n ∧ suM s m n ≤ 9 * n
  | 0, _ => by simp [suM]
  | 1, _ => by simp [suM]
  | n + 2, h => by
    have h1 := suM_r hA hO hm (n + 1) (by omega)
    obtain ⟨-, h2, -⟩ := hO m hm.1 hm.2
    have h3 := (h2 n (by omega) (by omega)).1
    have h4 := (h2 (n + 1) (by omega) (by omega)).1
    have h5 := (hA.su h3 h4).2.2
    unfold suM
    omega
theorem suA_r {s : Nat → Int} (hA : WfA s) (hO : WfO s) : ∀ n : Nat, n ≤ 4 → 0 ≤ suA s n ∧ suA s n ≤ 45 * n
  | 0, _ => by simp [suA]
  | n + 1, h => by
    have h1 := suA_r hA hO n (by omega)
    have h0 := (hO n (by omega) (by omega)).1
    have h2 := suM_r hA hO (m := n) (by omega) (sOn s n).toNat (by omega)
    unfold suA
    omega
theorem tw_setupSum {w : tW} (hA : WfA (w 0)) (hO : WfO (w 0)) : tMi yX4_setupSum cX4_setupSum 4 .int 2 [] w (fun v w' => v = suA (w 0) 4 ∧ w' = w) := by
  have h20 := hA.2.1.1
  refine zMet.of (by decide) (Nat.le_of_ble_eq_true rfl) fun X K => ?_
  have loop : ∀ (r m : Nat), m + r = 4 → ∀ env, zsub env [(0, .ref 1000), (1, .int (iI (suA (w 0) m))), (2, .int (iI m))] → zW X (zPi fun x h' => ∃ v w', x = iI v ∧ h' = tH w' ∧ (v = suA (w 0) 4 ∧ w' = w)) (tH w) 0 0 4 env [] := by
    intro r
    induction r with
    | zero =>
      intro m hm env he
      obtain rfl : m = 4 := by omega
      refine zW.cut he ?_
      refine z_iload_n K dX4_setupSum_4 rfl rfl ?_
      refine j_iconst K dX4_setupSum_5 ?_
      refine j_icmp_ge (tgt := 58) K dX4_setupSum_6 rfl (by omega) (by omega) (fun c_6 => ?_) (fun c_6 => ?_)
      · refine z_iload_n K dX4_setupSum_58 rfl rfl ?_
        exact t_iret K (Nat.le_refl _) (Nat.le_refl _) (⟨rfl, rfl⟩) dX4_setupSum_59
      · exact absurd c_6 (by omega)
    | succ r ih =>
      intro m hm env he
      refine zW.cut he ?_
      obtain ⟨h1, h2, h3, h4⟩ := hO m (by omega) (by omega)
      have inner : ∀ (r i : Nat), (i : Int) + r = max (sOn (w 0) m) 1 → 1 ≤ i → ∀ env, zsub env [(0, .ref 1000), (1, .int (iI (suA (w 0) m + suM (w 0) m i))), (2, .int (iI m)), (3, .int (iI i))] → zW X (zPi fun x h' => ∃ v w', x = iI v ∧ h' = tH w' ∧ (v = suA (w 0) 4 ∧ w' = w)) (tH w) 0 0 11 env [] := by
        intro r
        induction r with
        | zero =>
          intro i hi h1i env he
          refine zW.cut he ?_
          have hs : suA (w 0) m + suM (w 0) m i = suA (w 0) (m + 1) := by
            show _ = suA (w 0) m + suM (w 0) m (sOn (w 0) m).toNat
            rcases (by omega : i = (sOn (w 0) m).toNat ∨ (i = 1 ∧ (sOn (w 0) m).toNat = 0)) with q | ⟨q1, q2⟩
            · rw [q]
            · rw [q1, q2]; rfl
          rw [hs]
          (try dsimp only [sRel, sDue, sWt, sLen, sSeq, sJb, sMc, sDu, sFa, sIx, sSu, sBn, sBf, sBl, sOn, sOr] at *)
          refine z_iload_n K dX4_setupSum_11 rfl rfl ?_
          refine z_aload_n K dX4_setupSum_12 rfl rfl rfl ?_
          refine t_geta K fd_X4_9_0 rfl dX4_setupSum_13 ?_
          refine j_sipush K dX4_setupSum_16 (by decide +kernel) ?_
          refine z_iload_n K dX4_setupSum_19 rfl rfl ?_
          refine j_iadd K dX4_setupSum_20 ?_
          refine t_ild K 0 203 rfl rfl rfl (by omega) (by omega) rfl dX4_setupSum_21 ?_
          refine j_icmp_ge (tgt := 52) K dX4_setupSum_22 rfl (by omega) (by omega) (fun c_22 => ?_) (fun c_22 => ?_)
          · refine j_iinc K dX4_setupSum_52 rfl (by decide) rfl ?_
            refine z_goto (tgt := 4) K dX4_setupSum_55 rfl ?_
            exact ih (m + 1) (by omega) _ ⟨rfl, rfl, rfl, trivial⟩
          · exact absurd c_22 (by omega)
        | succ r ihr =>
          intro i hi h1i env he
          refine zW.cut he ?_
          obtain ⟨i', rfl⟩ : ∃ i', i = i' + 1 := ⟨i - 1, by omega⟩
          have g1 := (h2 i' (by omega) (by omega)).1
          have g2 := (h2 (i' + 1) (by omega) (by omega)).1
          have g3 := hA.su g1 g2
          have e9 : ((i' + 1 : Nat) : Int) = (i' : Int) + 1 := by omega
          rw [e9]
          have fin : ∀ env, zsub env [(0, .ref 1000), (1, .int (iI (suA (w 0) m + suM (w 0) m (i' + 1) + sSu (w 0) (sOr (w 0) m i') (sOr (w 0) m ((i' : Int) + 1))))), (2, .int (iI m)), (3, .int (iI ((i' : Int) + 1 + 1)))] → zW X (zPi fun x h' => ∃ v w', x = iI v ∧ h' = tH w' ∧ (v = suA (w 0) 4 ∧ w' = w)) (tH w) 0 0 11 env [] := fun env he => ihr (i' + 2) (by omega) (by omega) env (by rw [show suA (w 0) m + suM (w 0) m (i' + 2) = suA (w 0) m + suM (w 0) m (i' + 1) + sSu (w 0) (sOr (w 0) m i') (sOr (w 0) m ((i' : Int) + 1)) by rw [Int.add_assoc]; rfl]; exact he)
          have e8 : (i' : Int) + 1 - 1 = i' := by omega
          (try dsimp only [sRel, sDue, sWt, sLen, sSeq, sJb, sMc, sDu, sFa, sIx, sSu, sBn, sBf, sBl, sOn, sOr] at *)
          refine z_iload_n K dX4_setupSum_11 rfl rfl ?_
          refine z_aload_n K dX4_setupSum_12 rfl rfl rfl ?_
          refine t_geta K fd_X4_9_0 rfl dX4_setupSum_13 ?_
          refine j_sipush K dX4_setupSum_16 (by decide +kernel) ?_
          refine z_iload_n K dX4_setupSum_19 rfl rfl ?_
          refine j_iadd K dX4_setupSum_20 ?_
          refine t_ild K 0 203 rfl rfl rfl (by omega) (by omega) rfl dX4_setupSum_21 ?_
          refine j_icmp_ge (tgt := 52) K dX4_setupSum_22 rfl (by omega) (by omega) (fun c_22 => ?_) (fun c_22 => ?_)
          · exact absurd c_22 (by omega)
          · refine z_iload_n K dX4_setupSum_25 rfl rfl ?_
            refine z_aload_n K dX4_setupSum_26 rfl rfl rfl ?_
            refine z_aload_n K dX4_setupSum_27 rfl rfl rfl ?_
            refine z_iload_n K dX4_setupSum_28 rfl rfl ?_
            refine z_iload_n K dX4_setupSum_29 rfl rfl ?_
            refine j_iconst K dX4_setupSum_30 ?_
            refine j_isub K dX4_setupSum_31 ?_
            rw [e8]
            refine t_callp K (tw_ordered (by omega) (by omega)) cV_X4_142_X4 rfl rfl (by decide) (Nat.le_of_ble_eq_true rfl) (Nat.le_refl _) (Nat.le_refl _) dX4_setupSum_32 ?_
            refine z_aload_n K dX4_setupSum_35 rfl rfl rfl ?_
            refine z_iload_n K dX4_setupSum_36 rfl rfl ?_
            refine z_iload_n K dX4_setupSum_37 rfl rfl ?_
            refine t_callp K (tw_ordered (by omega) (by omega)) cV_X4_142_X4 rfl rfl (by decide) (Nat.le_of_ble_eq_true rfl) (Nat.le_refl _) (Nat.le_refl _) dX4_setupSum_38 ?_
            refine t_callp K (tw_setup (by omega) (by omega) (by omega) (by omega)) cV_X4_172_X4 rfl rfl (by decide) (Nat.le_of_ble_eq_true rfl) (Nat.le_refl _) (Nat.le_refl _) dX4_setupSum_41 ?_
            refine j_iadd K dX4_setupSum_44 ?_
            refine z_istore_n K dX4_setupSum_45 rfl (by decide) rfl ?_
            refine j_iinc K dX4_setupSum_46 rfl (by decide) rfl ?_
            refine z_goto (tgt := 11) K dX4_setupSum_49 rfl ?_
            exact fin _ ⟨rfl, rfl, rfl, rfl, trivial⟩
      refine z_iload_n K dX4_setupSum_4 rfl rfl ?_
      refine j_iconst K dX4_setupSum_5 ?_
      refine j_icmp_ge (tgt := 58) K dX4_setupSum_6 rfl (by omega) (by omega) (fun c_6 => ?_) (fun c_6 => ?_)
      · exact absurd c_6 (by omega)
      · refine j_iconst K dX4_setupSum_9 ?_
        refine z_istore_n K dX4_setupSum_10 rfl (by decide) rfl ?_
        exact inner (max (sOn (w 0) m) 1 - 1).toNat 1 (by omega) (by omega) _ ⟨rfl, by rw [show suA (w 0) m + suM (w 0) m 1 = suA (w 0) m by (show suA (w 0) m + 0 = _; omega)]; rfl, rfl, rfl, trivial⟩
  refine j_iconst K dX4_setupSum_0 ?_
  refine z_istore_n K dX4_setupSum_1 rfl (by decide) rfl ?_
  refine j_iconst K dX4_setupSum_2 ?_
  refine z_istore_n K dX4_setupSum_3 rfl (by decide) rfl ?_
  exact loop 4 0 (by omega) _ ⟨rfl, rfl, rfl, trivial⟩
/-- how long the operations wait, of the first n -/
def waA (rd st : Nat → Int) : Nat → Int
  | 0 => 0
  | n + 1 => waA rd st n + (st n - rd n)
/-- a job's share of an objective -/
def obJ (s st : Nat → Int) (a j : Int) : Int := if a = 0 then sCo s st j else if a = 1 then sWt s j * max 0 (sCo s st j - sDue s j) else if 0 < max 0 (sCo s st j - sDue s j) then 1 else 0
def obA (s st : Nat → Int) (a : Int) : Nat → Int
  | 0 => 0
  | n + 1 => obA s st a n + obJ s st a n
def obS (s rd st : Nat → Int) (a : Int) : Int := if a = 3 then suA s 4 else if a = 4 then waA rd st (s 1).toNat else obA s st a (s 0).toNat
theorem sCo_r {s st : Nat → Int} (hA : WfA s) (hs : ∀ i : Nat, (i : Int) < s 1 → -1 ≤ st i ∧ st i ≤ 4000) {j : Int} (h0 : 0 ≤ j) (h1 : j < s 0) : 0 ≤ sCo s st j ∧ sCo s st j ≤ 4030 := by
  have h4 := hA.1.2 j h0 h1
  unfold sCo
  split
  · omega
  · have h9 := (hA.2.2.1 j (sLen s j - 1) h0 h1 (by omega) (by omega)).1
    have h8 := (hA.2.1.2 _ h9.1 h9.2).2.2.1
    have h7 := hs (sSeq s j (sLen s j - 1)).toNat (by omega)
    omega
noncomputable def tcObj (a : Int) : Int := if 0 ≤ a ∧ a ≤ 4 then 0 else 1
theorem tw_objective {w : tW} {a : Int} (ha : -2147483648 ≤ a ∧ a ≤ 2147483647) (hI : TI w) :
    tMi yX4_objective cX4_objective 6 .int 7 [.int (iI a)] w (pubQ w (tcObj a) (fun v w' => ∃ rd st, w' = wt (tset w 3 0 0) rd st ∧ fT w 500 rd st ∧ v = obS (w 0) rd st a)) := by
  refine zMet.of (by decide) (Nat.le_of_ble_eq_true rfl) fun X K => ?_
  have h5 := hI.1.1.1
  have h20 := hI.1.2.1.1
  have hA := hI.1
  have e0 : (0 : Int).toNat = 0 := rfl
  have e1 : (1 : Int).toNat = 1 := rfl
  have rest0 : ∀ rd st, fT w 500 rd st → tcObj a = 0 → 0 ≤ a ∧ a ≤ 4 → a ≠ 3 → ∀ env, zsub env [(0, .ref 1000), (1, .int (iI a))] → zW X (zPi fun x h' => ∃ v9 w', x = iI v9 ∧ h' = tH w' ∧ pubQ w (tcObj a) (fun v w' => ∃ rd st, w' = wt (tset w 3 0 0) rd st ∧ fT w 500 rd st ∧ v = obS (w 0) rd st a) v9 w') (tH (wt (tset w 3 0 0) rd st)) 0 0 45 env [] := by
    intro rd st hT ht h7 h3 env he
    refine zW.cut he ?_
    have hs : ∀ i : Nat, (i : Int) < w 0 1 → -1 ≤ st i ∧ st i ≤ 4000 := fun i hi => by have := hT.2.2 i hi; omega
    have e2 : ∀ i, wt (tset w 3 0 0) rd st 0 i = w 0 i := fun i => rfl
    have e3 : ∀ i, wt (tset w 3 0 0) rd st 12 i = st i := fun i => rfl
    have e4 : ∀ i, wt (tset w 3 0 0) rd st 11 i = rd i := fun i => rfl
    have jobs : ∀ (r j : Nat) (x : Int), a < 3 → j + r = (w 0 0).toNat → x = obA (w 0) st a j → ∀ env, zsub env [(0, .ref 1000), (1, .int (iI a)), (3, .int (iI x)), (4, .int (iI j))] → zW X (zPi fun x h' => ∃ v9 w', x = iI v9 ∧ h' = tH w' ∧ pubQ w (tcObj a) (fun v w' => ∃ rd st, w' = wt (tset w 3 0 0) rd st ∧ fT w 500 rd st ∧ v = obS (w 0) rd st a) v9 w') (tH (wt (tset w 3 0 0) rd st)) 0 0 93 env [] := by
      intro r
      induction r with
      | zero =>
        intro j x ha3 hj hx env he
        refine zW.cut he ?_
        refine z_iload K dX4_objective_93 rfl ?_
        refine z_aload_n K dX4_objective_95 rfl rfl rfl ?_
        refine t_geta K fd_X4_9_0 rfl dX4_objective_96 ?_
        refine j_iconst K dX4_objective_99 ?_
        refine t_ild K 0 203 rfl rfl rfl (by omega) (by omega) rfl dX4_objective_100 ?_
        rw [e0, e2]
        refine j_icmp_ge (tgt := 185) K dX4_objective_101 rfl (by omega) (by omega) (fun c_101 => ?_) (fun c_101 => ?_)
        · refine z_iload_n K dX4_objective_185 rfl rfl ?_
          exact t_iret K (Nat.le_refl _) (Nat.le_refl _) (⟨fun q => ⟨rd, st, rfl, hT, by unfold obS; rw [if_neg h3, if_neg (by omega), hx, ← hj]; rfl⟩, fun q => absurd ht q⟩) dX4_objective_186
        · exact absurd c_101 (by omega)
      | succ r ih =>
        intro j x ha3 hj hx env he
        refine zW.cut he ?_
        have hjr : 0 ≤ (j : Int) ∧ (j : Int) < w 0 0 := by omega
        have hco := sCo_r hA hs hjr.1 hjr.2
        have hjj := hA.1.2 j hjr.1 hjr.2
        have fin : ∀ y : Int, y = obJ (w 0) st a j → ∀ env, zsub env [(0, .ref 1000), (1, .int (iI a)), (3, .int (iI (x + y))), (4, .int (iI ((j : Int) + 1)))] → zW X (zPi fun x h' => ∃ v9 w', x = iI v9 ∧ h' = tH w' ∧ pubQ w (tcObj a) (fun v w' => ∃ rd st, w' = wt (tset w 3 0 0) rd st ∧ fT w 500 rd st ∧ v = obS (w 0) rd st a) v9 w') (tH (wt (tset w 3 0 0) rd st)) 0 0 93 env [] := fun y hy env he => ih (j + 1) (x + y) ha3 (by omega) (by rw [hx, hy]; rfl) env he
        (try dsimp only [sRel, sDue, sWt, sLen, sSeq, sJb, sMc, sDu, sFa, sIx, sSu, sBn, sBf, sBl, sOn, sOr] at *)
        refine z_iload K dX4_objective_93 rfl ?_
        refine z_aload_n K dX4_objective_95 rfl rfl rfl ?_
        refine t_geta K fd_X4_9_0 rfl dX4_objective_96 ?_
        refine j_iconst K dX4_objective_99 ?_
        refine t_ild K 0 203 rfl rfl rfl (by omega) (by omega) rfl dX4_objective_100 ?_
        rw [e0, e2]
        refine j_icmp_ge (tgt := 185) K dX4_objective_101 rfl (by omega) (by omega) (fun c_101 => ?_) (fun c_101 => ?_)
        · exact absurd c_101 (by omega)
        · refine z_iload_n K dX4_objective_104 rfl rfl ?_
          refine j_iconst K dX4_objective_105 ?_
          refine j_icmp_ge (tgt := 185) K dX4_objective_106 rfl (by omega) (by omega) (fun c_106 => ?_) (fun c_106 => ?_)
          · exact absurd c_106 (by omega)
          · refine j_iconst K dX4_objective_109 ?_
            refine z_aload_n K dX4_objective_110 rfl rfl rfl ?_
            refine z_iload K dX4_objective_111 rfl ?_
            refine t_callp K (tw_completionOf (w := wt (tset w 3 0 0) rd st) hI.1 hjr) cV_X4_191_X4 rfl rfl (by decide) (Nat.le_of_ble_eq_true rfl) (Nat.le_refl _) (Nat.le_refl _) dX4_objective_113 ?_
            refine z_aload_n K dX4_objective_116 rfl rfl rfl ?_
            refine t_geta K fd_X4_9_0 rfl dX4_objective_117 ?_
            refine j_bipush K dX4_objective_120 (by decide +kernel) ?_
            refine z_iload K dX4_objective_122 rfl ?_
            refine j_iadd K dX4_objective_124 ?_
            refine t_ild K 0 203 rfl rfl rfl (by omega) (by omega) rfl dX4_objective_125 ?_
            rw [e2, show sCo (wt (tset w 3 0 0) rd st 0) (wt (tset w 3 0 0) rd st 12) j = sCo (w 0) st j from rfl]
            refine j_isub K dX4_objective_126 ?_
            refine z_calls K (s_max (by omega) (by omega)) cS_X4_167 rfl rfl (by decide) (Nat.le_of_ble_eq_true rfl) (Nat.le_refl _) (Nat.le_refl _) dX4_objective_127 ?_
            refine z_istore K dX4_objective_130 (by decide) rfl ?_
            refine z_iload_n K dX4_objective_132 rfl rfl ?_
            refine z_iload_n K dX4_objective_133 rfl rfl ?_
            refine j_if_ne (tgt := 146) K dX4_objective_134 rfl (by omega) (fun c_134 => ?_) (fun c_134 => ?_)
            · refine z_iload_n K dX4_objective_146 rfl rfl ?_
              refine j_iconst K dX4_objective_147 ?_
              refine j_icmp_ne (tgt := 167) K dX4_objective_148 rfl (by omega) (by omega) (fun c_148 => ?_) (fun c_148 => ?_)
              · refine z_iload K dX4_objective_167 rfl ?_
                refine j_if_le (tgt := 176) K dX4_objective_169 rfl (by omega) (fun c_169 => ?_) (fun c_169 => ?_)
                · refine j_iconst K dX4_objective_176 ?_
                  refine j_iadd K dX4_objective_177 ?_
                  refine z_istore_n K dX4_objective_178 rfl (by decide) rfl ?_
                  refine j_iinc K dX4_objective_179 rfl (by decide) rfl ?_
                  refine z_goto (tgt := 93) K dX4_objective_182 rfl ?_
                  exact fin _ (by unfold obJ; (try dsimp only [sRel, sDue, sWt, sLen, sSeq, sJb, sMc, sDu, sFa, sIx, sSu, sBn, sBf, sBl, sOn, sOr] at *); first | (rw [if_pos c_134]; rfl) | (rw [if_neg c_134, if_pos c_148]; done) | (rw [if_neg c_134, if_neg c_148, if_pos (by omega)]; done) | (rw [if_neg c_134, if_neg c_148, if_neg (by omega)]; done)) _ ⟨rfl, rfl, rfl, rfl, trivial⟩
                · refine j_iconst K dX4_objective_172 ?_
                  refine z_goto (tgt := 177) K dX4_objective_173 rfl ?_
                  refine j_iadd K dX4_objective_177 ?_
                  refine z_istore_n K dX4_objective_178 rfl (by decide) rfl ?_
                  refine j_iinc K dX4_objective_179 rfl (by decide) rfl ?_
                  refine z_goto (tgt := 93) K dX4_objective_182 rfl ?_
                  exact fin _ (by unfold obJ; (try dsimp only [sRel, sDue, sWt, sLen, sSeq, sJb, sMc, sDu, sFa, sIx, sSu, sBn, sBf, sBl, sOn, sOr] at *); first | (rw [if_pos c_134]; rfl) | (rw [if_neg c_134, if_pos c_148]; done) | (rw [if_neg c_134, if_neg c_148, if_pos (by omega)]; done) | (rw [if_neg c_134, if_neg c_148, if_neg (by omega)]; done)) _ ⟨rfl, rfl, rfl, rfl, trivial⟩
              · refine z_aload_n K dX4_objective_151 rfl rfl rfl ?_
                refine t_geta K fd_X4_9_0 rfl dX4_objective_152 ?_
                refine j_bipush K dX4_objective_155 (by decide +kernel) ?_
                refine z_iload K dX4_objective_157 rfl ?_
                refine j_iadd K dX4_objective_159 ?_
                refine t_ild K 0 203 rfl rfl rfl (by omega) (by omega) rfl dX4_objective_160 ?_
                rw [e2]
                refine z_iload K dX4_objective_161 rfl ?_
                refine j_imul K dX4_objective_163 ?_
                refine z_goto (tgt := 177) K dX4_objective_164 rfl ?_
                refine j_iadd K dX4_objective_177 ?_
                refine z_istore_n K dX4_objective_178 rfl (by decide) rfl ?_
                refine j_iinc K dX4_objective_179 rfl (by decide) rfl ?_
                refine z_goto (tgt := 93) K dX4_objective_182 rfl ?_
                exact fin _ (by unfold obJ; (try dsimp only [sRel, sDue, sWt, sLen, sSeq, sJb, sMc, sDu, sFa, sIx, sSu, sBn, sBf, sBl, sOn, sOr] at *); first | (rw [if_pos c_134]; rfl) | (rw [if_neg c_134, if_pos c_148]; done) | (rw [if_neg c_134, if_neg c_148, if_pos (by omega)]; done) | (rw [if_neg c_134, if_neg c_148, if_neg (by omega)]; done)) _ ⟨rfl, rfl, rfl, rfl, trivial⟩
            · refine z_aload_n K dX4_objective_137 rfl rfl rfl ?_
              refine z_iload K dX4_objective_138 rfl ?_
              refine t_callp K (tw_completionOf (w := wt (tset w 3 0 0) rd st) hI.1 hjr) cV_X4_191_X4 rfl rfl (by decide) (Nat.le_of_ble_eq_true rfl) (Nat.le_refl _) (Nat.le_refl _) dX4_objective_140 ?_
              refine z_goto (tgt := 177) K dX4_objective_143 rfl ?_
              refine j_iadd K dX4_objective_177 ?_
              refine z_istore_n K dX4_objective_178 rfl (by decide) rfl ?_
              refine j_iinc K dX4_objective_179 rfl (by decide) rfl ?_
              refine z_goto (tgt := 93) K dX4_objective_182 rfl ?_
              exact fin _ (by unfold obJ; (try dsimp only [sRel, sDue, sWt, sLen, sSeq, sJb, sMc, sDu, sFa, sIx, sSu, sBn, sBf, sBl, sOn, sOr] at *); first | (rw [if_pos c_134]; rfl) | (rw [if_neg c_134, if_pos c_148]; done) | (rw [if_neg c_134, if_neg c_148, if_pos (by omega)]; done) | (rw [if_neg c_134, if_neg c_148, if_neg (by omega)]; done)) _ ⟨rfl, rfl, rfl, rfl, trivial⟩
    have waits : ∀ (r k : Nat) (x : Int), a = 4 → k + r = (w 0 1).toNat → x = waA rd st k → ∀ env, zsub env [(0, .ref 1000), (1, .int (iI a)), (3, .int (iI x)), (4, .int (iI k))] → zW X (zPi fun x h' => ∃ v9 w', x = iI v9 ∧ h' = tH w' ∧ pubQ w (tcObj a) (fun v w' => ∃ rd st, w' = wt (tset w 3 0 0) rd st ∧ fT w 500 rd st ∧ v = obS (w 0) rd st a) v9 w') (tH (wt (tset w 3 0 0) rd st)) 0 0 50 env [] := by
      intro r
      induction r with
      | zero =>
        intro k x ha4 hk hx env he
        refine zW.cut he ?_
        refine z_iload K dX4_objective_50 rfl ?_
        refine z_aload_n K dX4_objective_52 rfl rfl rfl ?_
        refine t_geta K fd_X4_9_0 rfl dX4_objective_53 ?_
        refine j_iconst K dX4_objective_56 ?_
        refine t_ild K 0 203 rfl rfl rfl (by omega) (by omega) rfl dX4_objective_57 ?_
        rw [e1, e2]
        refine j_icmp_ge (tgt := 90) K dX4_objective_58 rfl (by omega) (by omega) (fun c_58 => ?_) (fun c_58 => ?_)
        · refine j_iconst K dX4_objective_90 ?_
          refine z_istore K dX4_objective_91 (by decide) rfl ?_
          refine z_iload K dX4_objective_93 rfl ?_
          refine z_aload_n K dX4_objective_95 rfl rfl rfl ?_
          refine t_geta K fd_X4_9_0 rfl dX4_objective_96 ?_
          refine j_iconst K dX4_objective_99 ?_
          refine t_ild K 0 203 rfl rfl rfl (by omega) (by omega) rfl dX4_objective_100 ?_
          rw [e0, e2]
          refine j_icmp_ge (tgt := 185) K dX4_objective_101 rfl (by omega) (by omega) (fun c_101 => ?_) (fun c_101 => ?_)
          · refine z_iload_n K dX4_objective_185 rfl rfl ?_
            exact t_iret K (Nat.le_refl _) (Nat.le_refl _) (⟨fun q => ⟨rd, st, rfl, hT, by unfold obS; rw [if_neg h3, if_pos ha4, hx, ← hk]; rfl⟩, fun q => absurd ht q⟩) dX4_objective_186
          · refine z_iload_n K dX4_objective_104 rfl rfl ?_
            refine j_iconst K dX4_objective_105 ?_
            refine j_icmp_ge (tgt := 185) K dX4_objective_106 rfl (by omega) (by omega) (fun c_106 => ?_) (fun c_106 => ?_)
            · refine z_iload_n K dX4_objective_185 rfl rfl ?_
              exact t_iret K (Nat.le_refl _) (Nat.le_refl _) (⟨fun q => ⟨rd, st, rfl, hT, by unfold obS; rw [if_neg h3, if_pos ha4, hx, ← hk]; rfl⟩, fun q => absurd ht q⟩) dX4_objective_186
            · exact absurd c_106 (by omega)
        · exact absurd c_58 (by omega)
      | succ r ih =>
        intro k x ha4 hk hx env he
        refine zW.cut he ?_
        refine z_iload K dX4_objective_50 rfl ?_
        refine z_aload_n K dX4_objective_52 rfl rfl rfl ?_
        refine t_geta K fd_X4_9_0 rfl dX4_objective_53 ?_
        refine j_iconst K dX4_objective_56 ?_
        refine t_ild K 0 203 rfl rfl rfl (by omega) (by omega) rfl dX4_objective_57 ?_
        rw [e1, e2]
        refine j_icmp_ge (tgt := 90) K dX4_objective_58 rfl (by omega) (by omega) (fun c_58 => ?_) (fun c_58 => ?_)
        · exact absurd c_58 (by omega)
        · refine z_iload_n K dX4_objective_61 rfl rfl ?_
          refine j_iconst K dX4_objective_62 ?_
          refine j_icmp_ne (tgt := 90) K dX4_objective_63 rfl (by omega) (by omega) (fun c_63 => ?_) (fun c_63 => ?_)
          · exact absurd ha4 c_63
          · refine z_iload_n K dX4_objective_66 rfl rfl ?_
            refine z_aload_n K dX4_objective_67 rfl rfl rfl ?_
            refine t_geta K fd_X4_29_0 rfl dX4_objective_68 ?_
            refine z_iload K dX4_objective_71 rfl ?_
            refine t_ild K 12 20 rfl rfl rfl (by omega) (by omega) rfl dX4_objective_73 ?_
            refine z_aload_n K dX4_objective_74 rfl rfl rfl ?_
            refine t_geta K fd_X4_26_0 rfl dX4_objective_75 ?_
            refine z_iload K dX4_objective_78 rfl ?_
            refine t_ild K 11 20 rfl rfl rfl (by omega) (by omega) rfl dX4_objective_80 ?_
            rw [e3, e4, Int.toNat_natCast]
            refine j_isub K dX4_objective_81 ?_
            refine j_iadd K dX4_objective_82 ?_
            refine z_istore_n K dX4_objective_83 rfl (by decide) rfl ?_
            refine j_iinc K dX4_objective_84 rfl (by decide) rfl ?_
            refine z_goto (tgt := 50) K dX4_objective_87 rfl ?_
            exact ih (k + 1) _ ha4 (by omega) (by rw [hx]; rfl) _ ⟨rfl, rfl, rfl, rfl, trivial⟩
    by_cases ha4 : a = 4
    · refine j_iconst K dX4_objective_45 ?_
      refine z_istore_n K dX4_objective_46 rfl (by decide) rfl ?_
      refine j_iconst K dX4_objective_47 ?_
      refine z_istore K dX4_objective_48 (by decide) rfl ?_
      exact waits (w 0 1).toNat 0 0 ha4 (by omega) rfl _ ⟨rfl, rfl, rfl, rfl, trivial⟩
    · refine j_iconst K dX4_objective_45 ?_
      refine z_istore_n K dX4_objective_46 rfl (by decide) rfl ?_
      refine j_iconst K dX4_objective_47 ?_
      refine z_istore K dX4_objective_48 (by decide) rfl ?_
      refine z_iload K dX4_objective_50 rfl ?_
      refine z_aload_n K dX4_objective_52 rfl rfl rfl ?_
      refine t_geta K fd_X4_9_0 rfl dX4_objective_53 ?_
      refine j_iconst K dX4_objective_56 ?_
      refine t_ild K 0 203 rfl rfl rfl (by omega) (by omega) rfl dX4_objective_57 ?_
      rw [e1, e2]
      refine j_icmp_ge (tgt := 90) K dX4_objective_58 rfl (by omega) (by omega) (fun c_58 => ?_) (fun c_58 => ?_)
      · refine j_iconst K dX4_objective_90 ?_
        refine z_istore K dX4_objective_91 (by decide) rfl ?_
        exact jobs (w 0 0).toNat 0 0 (by omega) (by omega) rfl _ ⟨rfl, rfl, rfl, rfl, trivial⟩
      · refine z_iload_n K dX4_objective_61 rfl rfl ?_
        refine j_iconst K dX4_objective_62 ?_
        refine j_icmp_ne (tgt := 90) K dX4_objective_63 rfl (by omega) (by omega) (fun c_63 => ?_) (fun c_63 => ?_)
        · refine j_iconst K dX4_objective_90 ?_
          refine z_istore K dX4_objective_91 (by decide) rfl ?_
          exact jobs (w 0 0).toNat 0 0 (by omega) (by omega) rfl _ ⟨rfl, rfl, rfl, rfl, trivial⟩
        · exact absurd c_63 ha4
  have tail : ∀ t : Int, t = tcObj a → 0 ≤ t ∧ t ≤ 3 → (t = 0 → (0 ≤ a ∧ a ≤ 4)) → ∀ env, zsub env [(0, .ref 1000), (1, .int (iI a))] → zW X (zPi fun x h' => ∃ v9 w', x = iI v9 ∧ h' = tH w' ∧ pubQ w (tcObj a) (fun v w' => ∃ rd st, w' = wt (tset w 3 0 0) rd st ∧ fT w 500 rd st ∧ v = obS (w 0) rd st a) v9 w') (tH w) 0 0 18 env [.int (iI t), .ref 1000] := by
    intro t ht hr h5a env he
    refine zW.cut he ?_
    have rest0 := rest0
    have rest : ∀ rd st, fT w 500 rd st → tcObj a = 0 → 0 ≤ a ∧ a ≤ 4 → a ≠ 3 → ∀ env, zsub env [(0, .ref 1000), (1, .int (iI a))] → zW X (zPi fun x h' => ∃ v9 w', x = iI v9 ∧ h' = tH w' ∧ pubQ w (tcObj a) (fun v w' => ∃ rd st, w' = wt (tset w 3 0 0) rd st ∧ fT w 500 rd st ∧ v = obS (w 0) rd st a) v9 w') (tH (wt (tset w 3 0 0) rd st)) 0 0 45 env [] := by exact rest0
    refine t_puti K fd_X4_79_0 ⟨_, rfl, Or.inl rfl⟩ (by decide) rfl rfl dX4_objective_18 ?_
    refine z_aload_n K dX4_objective_21 rfl rfl rfl ?_
    refine t_geti K fd_X4_79_0 (by decide) rfl dX4_objective_22 ?_
    refine j_if_le (tgt := 30) K dX4_objective_25 rfl (by rw [tset_s]; omega) (fun c_25 => ?_) (fun c_25 => ?_)
    · rw [tset_s] at c_25
      obtain rfl : t = 0 := by omega
      have h7 := h5a rfl
      refine z_aload_n K dX4_objective_30 rfl rfl rfl ?_
      refine t_calli K (tw_findTimes (w := tset w 3 0 0) (bb := 500) (by omega) (Or.inl hI.2.2.2.1) hI.1 hI.2.1 hI.ho (by show -1 ≤ w 14 0 ∧ w 14 0 ≤ 100; rw [hI.2.2.2.1]; omega) hI.2.2.2.2.1) cV_X4_181_X4 rfl rfl (by decide) (Nat.le_of_ble_eq_true rfl) (Nat.le_refl _) (Nat.le_refl _) dX4_objective_31 ?_
      rintro _ _ ⟨rd, st, rfl, hT, rfl⟩
      refine z_istore_n K dX4_objective_34 rfl (by decide) rfl ?_
      refine z_iload_n K dX4_objective_35 rfl rfl ?_
      refine j_iconst K dX4_objective_36 ?_
      refine j_icmp_ne (tgt := 45) K dX4_objective_37 rfl (by omega) (by omega) (fun c_37 => ?_) (fun c_37 => ?_)
      · exact rest rd st hT ht.symm h7 c_37 _ ⟨rfl, rfl, trivial⟩
      · refine z_aload_n K dX4_objective_40 rfl rfl rfl ?_
        refine t_callp K (tw_setupSum (w := wt (tset w 3 0 0) rd st) hI.1 hI.2.1) cV_X4_196_X4 rfl rfl (by decide) (Nat.le_of_ble_eq_true rfl) (Nat.le_refl _) (Nat.le_refl _) dX4_objective_41 ?_
        exact t_iret K (Nat.le_refl _) (Nat.le_refl _) (⟨fun q => ⟨rd, st, rfl, hT, by unfold obS; rw [if_pos c_37]; rfl⟩, fun q => absurd ht.symm q⟩) dX4_objective_44
    · rw [tset_s] at c_25
      refine j_iconst K dX4_objective_28 ?_
      exact t_iret K (Nat.le_refl _) (Nat.le_refl _) (⟨fun q => by omega, fun q => by rw [ht]⟩) dX4_objective_29
  refine z_aload_n K dX4_objective_0 rfl rfl rfl ?_
  refine z_iload_n K dX4_objective_1 rfl rfl ?_
  refine j_i2l K (by omega) dX4_objective_2 ?_
  refine j_lconst0 K dX4_objective_3 ?_
  refine j_ldc2 K 4 q2075 (by decide +kernel) dX4_objective_4 ?_
  refine z_calls K (s_in (by omega) (by omega) (by omega)) cS_X4_82 rfl rfl (by decide) (Nat.le_of_ble_eq_true rfl) (Nat.le_refl _) (Nat.le_refl _) dX4_objective_7 ?_
  refine j_if_eq (tgt := 17) K dX4_objective_10 rfl (b01r _) (fun c_10 => ?_) (fun c_10 => ?_)
  · rw [bI_eq] at c_10
    refine j_iconst K dX4_objective_17 ?_
    exact tail _ (by unfold tcObj; simp [*]) (by omega) (by omega) _ ⟨rfl, rfl, trivial⟩
  · rw [bI_ne] at c_10
    refine j_iconst K dX4_objective_13 ?_
    refine z_goto (tgt := 18) K dX4_objective_14 rfl ?_
    exact tail _ (by unfold tcObj; simp [*]) (by omega) (by omega) _ ⟨rfl, rfl, trivial⟩

