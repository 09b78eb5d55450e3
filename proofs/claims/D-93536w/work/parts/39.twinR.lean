/-! ===== the reference: best, reoptimize ===== -/
noncomputable def tcMach (m : Int) : Int := if 0 ≤ m ∧ m ≤ 3 then 0 else 1
def bestQ (w : tW) (m : Int) (v : Int) (w' : tW) : Prop := ∃ bo, bOf (w 0) (w 13) m.toNat (sOn (w 0) m).toNat (fun _ => True) v bo ∧ Fr [3, 11, 12, 20, 21, 23] w w' ∧ w' 3 0 = 0
theorem TI.fb {w : tW} (hI : TI w) : fbP (w 0) (w 13) (tset w 3 0 0) := ⟨rfl, rfl, hI.2.2.2.1, hI.2.2.2.2.1, hI.2.2.2.2.2⟩
theorem tw_best {w : tW} {m : Int} (hm : -2147483648 ≤ m ∧ m ≤ 2147483647) (hI : TI w) : tMi yX4_best cX4_best 2 .int 14 [.int (iI m)] w (pubQ w (tcMach m) (bestQ w m)) := by
  refine zMet.of (by decide) (Nat.le_of_ble_eq_true rfl) fun X K => ?_
  have hA := hI.1
  have hO := hI.2.1
  have tail : ∀ t : Int, t = tcMach m → 0 ≤ t ∧ t ≤ 1 → (t = 0 → 0 ≤ m ∧ m ≤ 3) → ∀ env, zsub env [(0, .ref 1000), (1, .int (iI m))] → zW X (zPi fun x h' => ∃ v9 w', x = iI v9 ∧ h' = tH w' ∧ pubQ w (tcMach m) (bestQ w m) v9 w') (tH w) 0 0 13 env [.int (iI t), .ref 1000] := by
    intro t ht hr h5 env he
    refine zW.cut he ?_
    have rec9 : t = 0 → tMv yX4_findBest cX4_findBest 4 13 [.int (iI m)] (tset w 3 0 0) (fbQ (w 0) (w 13) m.toNat (sOn (w 0) m).toNat (tset w 3 0 0)) := fun t0 => by
      have h7 := h5 t0
      have h8 := (hO m h7.1 h7.2).1
      have := tw_findBest hA hO (m := m.toNat) (n := (sOn (w 0) m).toNat) (by omega) (by rw [show ((m.toNat : Nat) : Int) = m by omega]; omega) hI.ho hI.fb
      rw [show ((m.toNat : Nat) : Int) = m by omega] at this
      exact this
    refine t_puti K fd_X4_79_0 ⟨_, rfl, Or.inl rfl⟩ (by decide) rfl rfl dX4_best_13 ?_
    refine z_aload_n K dX4_best_16 rfl rfl rfl ?_
    refine t_geti K fd_X4_79_0 (by decide) rfl dX4_best_17 ?_
    refine j_if_le (tgt := 25) K dX4_best_20 rfl (by rw [tset_s]; omega) (fun c_20 => ?_) (fun c_20 => ?_)
    · rw [tset_s] at c_20
      obtain rfl : t = 0 := by omega
      refine z_aload_n K dX4_best_25 rfl rfl rfl ?_
      refine z_iload_n K dX4_best_26 rfl rfl ?_
      refine t_callv K (rec9 rfl) cV_X4_252_X4 rfl rfl (by decide) (Nat.le_of_ble_eq_true rfl) (Nat.le_refl _) (Nat.le_refl _) dX4_best_27 ?_
      rintro W' ⟨q1, q2, q3, q4⟩
      refine z_aload_n K dX4_best_30 rfl rfl rfl ?_
      refine t_geti K fd_X4_246_0 (by decide) rfl dX4_best_31 ?_
      exact t_iret K (Nat.le_refl _) (Nat.le_refl _) (⟨fun q => ⟨_, q4, fun f hf => by by_cases z : f = 0; (rw [z]; exact q1); (rw [q2 f (fun e => hf (by revert e; simp; omega))]; exact tset_g (fun e => hf (by rw [e]; decide))), by rw [q2 3 (by decide)]; exact tset_s⟩, fun q => absurd ht.symm q⟩) dX4_best_34
    · rw [tset_s] at c_20
      refine j_iconst K dX4_best_23 ?_
      exact t_iret K (Nat.le_refl _) (Nat.le_refl _) (⟨fun q => by omega, fun q => by rw [ht]⟩) dX4_best_24
  refine z_aload_n K dX4_best_0 rfl rfl rfl ?_
  refine z_iload_n K dX4_best_1 rfl rfl ?_
  refine z_calls K (s_isMachine (by omega)) cS_X4_122 rfl rfl (by decide) (Nat.le_of_ble_eq_true rfl) (Nat.le_refl _) (Nat.le_refl _) dX4_best_2 ?_
  refine j_if_eq (tgt := 12) K dX4_best_5 rfl (b01r _) (fun c_5 => ?_) (fun c_5 => ?_)
  · rw [bI_eq] at c_5
    refine j_iconst K dX4_best_12 ?_
    exact tail _ (by unfold tcMach; split <;> omega) (by omega) (by omega) _ ⟨rfl, rfl, trivial⟩
  · rw [bI_ne] at c_5
    refine j_iconst K dX4_best_8 ?_
    refine z_goto (tgt := 13) K dX4_best_9 rfl ?_
    exact tail _ (by unfold tcMach; split <;> omega) (by omega) (by omega) _ ⟨rfl, rfl, trivial⟩
def reoQ (w : tW) (m : Int) (v : Int) (w' : tW) : Prop := ∃ bm bo, bOf (w 0) (w 13) m.toNat (sOn (w 0) m).toNat (fun _ => True) bm bo ∧ v = dif (w 0) m.toNat bo (sOn (w 0) m).toNat ∧ w' 0 = sPut (w 0) m.toNat (sOn (w 0) m).toNat bo ∧ Fr [0, 3, 11, 12, 20, 21, 23] w w' ∧ w' 3 0 = 0
theorem WfO.rr {s : Nat → Int} (hA : WfA s) (hO : WfO s) {m n : Nat} (hm : m ≤ 3) (hn : sOn s m = n) : ∀ i : Nat, i < n → 0 ≤ s (183 + 5 * m + i) ∧ s (183 + 5 * m + i) ≤ 100 := fun i hi => by
  have h20 := hA.2.1.1
  have := ((isPm.own hO hm hn).1 i hi).1
  exact ⟨this.1, by have z : s (183 + 5 * m + i) < s 1 := this.2; omega⟩
theorem tw_reoptimize {w : tW} {m : Int} (hm : -2147483648 ≤ m ∧ m ≤ 2147483647) (hI : TI w) (ha : ACy (w 0) (w 13)) : tMi yX4_reoptimize cX4_reoptimize 2 .int 14 [.int (iI m)] w (pubQ w (tcMach m) (reoQ w m)) := by
  refine zMet.of (by decide) (Nat.le_of_ble_eq_true rfl) fun X K => ?_
  have hA := hI.1
  have hO := hI.2.1
  have h20 := hA.2.1.1
  have tail : ∀ t : Int, t = tcMach m → 0 ≤ t ∧ t ≤ 1 → (t = 0 → 0 ≤ m ∧ m ≤ 3) → ∀ env, zsub env [(0, .ref 1000), (1, .int (iI m))] → zW X (zPi fun x h' => ∃ v9 w', x = iI v9 ∧ h' = tH w' ∧ pubQ w (tcMach m) (reoQ w m) v9 w') (tH w) 0 0 13 env [.int (iI t), .ref 1000] := by
    intro t ht hr h5 env he
    refine zW.cut he ?_
    have rec9 : t = 0 → tMv yX4_findBest cX4_findBest 4 13 [.int (iI m)] (tset w 3 0 0) (fbQ (w 0) (w 13) m.toNat (sOn (w 0) m).toNat (tset w 3 0 0)) := fun t0 => by
      have h7 := h5 t0
      have h8 := (hO m h7.1 h7.2).1
      have := tw_findBest hA hO (m := m.toNat) (n := (sOn (w 0) m).toNat) (by omega) (by rw [show ((m.toNat : Nat) : Int) = m by omega]; omega) hI.ho hI.fb
      rw [show ((m.toNat : Nat) : Int) = m by omega] at this
      exact this
    have rec8 : t = 0 → ∀ W', fbQ (w 0) (w 13) m.toNat (sOn (w 0) m).toNat (tset w 3 0 0) W' → tMi yX4_takeBest cX4_takeBest 4 .int 3 [.int (iI m)] W' (fun v w' => v = dif (w 0) m.toNat (W' 20) (sOn (w 0) m).toNat ∧ w' = wF W' 0 (sPut (w 0) m.toNat (sOn (w 0) m).toNat (W' 20))) := fun t0 W' ⟨q1, q2, q3, q4⟩ => by
      have h7 := h5 t0
      have h8 := (hO m h7.1 h7.2).1
      have em : ((m.toNat : Nat) : Int) = m := by omega
      have hn : sOn (w 0) (m.toNat : Nat) = (sOn (w 0) m).toNat := by rw [em]; omega
      have z := q4.own hA hO (by omega) hn (isPm.own hO (by omega) hn) (by rw [sPut_i]; exact ha)
      have := tw_takeBest (w := W') (m := m.toNat) (n := (sOn (w 0) m).toNat) q1 (by omega) hn (by omega) (WfO.rr hA hO (by omega) hn) (fun i hi => ⟨(z.2.1.1 i hi).1.1, by have := (z.2.1.1 i hi).1.2; omega⟩)
      rw [em] at this
      exact this
    refine t_puti K fd_X4_79_0 ⟨_, rfl, Or.inl rfl⟩ (by decide) rfl rfl dX4_reoptimize_13 ?_
    refine z_aload_n K dX4_reoptimize_16 rfl rfl rfl ?_
    refine t_geti K fd_X4_79_0 (by decide) rfl dX4_reoptimize_17 ?_
    refine j_if_le (tgt := 25) K dX4_reoptimize_20 rfl (by rw [tset_s]; omega) (fun c_20 => ?_) (fun c_20 => ?_)
    · rw [tset_s] at c_20
      obtain rfl : t = 0 := by omega
      refine z_aload_n K dX4_reoptimize_25 rfl rfl rfl ?_
      refine z_iload_n K dX4_reoptimize_26 rfl rfl ?_
      refine t_callv K (rec9 rfl) cV_X4_252_X4 rfl rfl (by decide) (Nat.le_of_ble_eq_true rfl) (Nat.le_refl _) (Nat.le_refl _) dX4_reoptimize_27 ?_
      rintro W' hQ
      refine z_aload_n K dX4_reoptimize_30 rfl rfl rfl ?_
      refine z_iload_n K dX4_reoptimize_31 rfl rfl ?_
      refine t_calli K (rec8 rfl W' hQ) cV_X4_255_X4 rfl rfl (by decide) (Nat.le_of_ble_eq_true rfl) (Nat.le_refl _) (Nat.le_refl _) dX4_reoptimize_32 ?_
      rintro v1 w2 ⟨hv, hw⟩
      obtain ⟨q1, q2, q3, q4⟩ := hQ
      exact t_iret K (Nat.le_refl _) (Nat.le_refl _) (⟨fun q => ⟨_, _, q4, hv, by rw [hw, wF_s], fun f hf => by rw [hw, wF_n (fun e => hf (by rw [e]; decide)), q2 f (fun e => hf (by revert e; simp; omega))]; exact tset_g (fun e => hf (by rw [e]; decide)), by rw [hw, wF_n (by decide), q2 3 (by decide)]; exact tset_s⟩, fun q => absurd ht.symm q⟩) dX4_reoptimize_35
    · rw [tset_s] at c_20
      refine j_iconst K dX4_reoptimize_23 ?_
      exact t_iret K (Nat.le_refl _) (Nat.le_refl _) (⟨fun q => by omega, fun q => by rw [ht]⟩) dX4_reoptimize_24
  refine z_aload_n K dX4_reoptimize_0 rfl rfl rfl ?_
  refine z_iload_n K dX4_reoptimize_1 rfl rfl ?_
  refine z_calls K (s_isMachine (by omega)) cS_X4_122 rfl rfl (by decide) (Nat.le_of_ble_eq_true rfl) (Nat.le_refl _) (Nat.le_refl _) dX4_reoptimize_2 ?_
  refine j_if_eq (tgt := 12) K dX4_reoptimize_5 rfl (b01r _) (fun c_5 => ?_) (fun c_5 => ?_)
  · rw [bI_eq] at c_5
    refine j_iconst K dX4_reoptimize_12 ?_
    exact tail _ (by unfold tcMach; split <;> omega) (by omega) (by omega) _ ⟨rfl, rfl, trivial⟩
  · rw [bI_ne] at c_5
    refine j_iconst K dX4_reoptimize_8 ?_
    refine z_goto (tgt := 13) K dX4_reoptimize_9 rfl ?_
    exact tail _ (by unfold tcMach; split <;> omega) (by omega) (by omega) _ ⟨rfl, rfl, trivial⟩

