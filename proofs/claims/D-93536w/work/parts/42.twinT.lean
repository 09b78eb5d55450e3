/-! ===== the reference: texts, their leaves ===== -/
theorem tw_append {w : tW} {c : Int} (hc : vp_nar .char (iI c) = iI c) (hl : 0 ≤ w 5 0 ∧ w 5 0 ≤ 80) : tMv yX4_append cX4_append 2 1 [.int (iI c)] w (fun w' => (w 5 0 = 80 ∧ w' = tset w 3 0 1) ∨ (w 5 0 < 80 ∧ w' = tset (tset (tset w 3 0 0) 4 (w 5 0).toNat c) 5 0 (w 5 0 + 1))) := by
  refine zMet.of (by decide) (Nat.le_of_ble_eq_true rfl) fun X K => ?_
  have e5 : ∀ v, tset w 3 0 v 5 0 = w 5 0 := fun v => tset_f (by decide)
  have e5b : ∀ v i u, tset (tset w 3 0 v) 4 i u 5 0 = w 5 0 := fun v i u => by rw [tset_f (by decide), tset_f (by decide)]
  refine z_aload_n K dX4_append_0 rfl rfl rfl ?_
  refine z_aload_n K dX4_append_1 rfl rfl rfl ?_
  refine t_geti K fd_X4_279_0 (by decide) rfl dX4_append_2 ?_
  refine j_bipush K dX4_append_5 (by decide +kernel) ?_
  refine j_icmp_ne (tgt := 14) K dX4_append_7 rfl (by omega) (by omega) (fun c_7 => ?_) (fun c_7 => ?_)
  · refine j_iconst K dX4_append_14 ?_
    refine t_puti K fd_X4_79_0 ⟨_, rfl, Or.inl rfl⟩ (by decide) rfl rfl dX4_append_15 ?_
    refine z_aload_n K dX4_append_18 rfl rfl rfl ?_
    refine t_geti K fd_X4_79_0 (by decide) rfl dX4_append_19 ?_
    refine j_if_ne (tgt := 45) K dX4_append_22 rfl (by rw [tset_s]; omega) (fun c_22 => ?_) (fun c_22 => ?_)
    · rw [tset_s] at c_22
      exact t_vret K (Nat.le_refl _) (Nat.le_refl _) ((by first | exact Or.inl ⟨by omega, rfl⟩ | exact Or.inr ⟨by omega, rfl⟩ | (exfalso; omega))) dX4_append_45
    · rw [tset_s] at c_22
      refine z_aload_n K dX4_append_25 rfl rfl rfl ?_
      refine t_geta K fd_X4_16_0 rfl dX4_append_26 ?_
      refine z_aload_n K dX4_append_29 rfl rfl rfl ?_
      refine t_geti K fd_X4_279_0 (by decide) rfl dX4_append_30 ?_
      rw [e5]
      refine z_iload_n K dX4_append_33 rfl rfl ?_
      refine t_cst K 4 80 rfl rfl rfl (by omega) (by omega) rfl hc dX4_append_34 ?_
      refine z_aload_n K dX4_append_35 rfl rfl rfl ?_
      refine z_dup K dX4_append_36 rfl ?_
      refine t_geti K fd_X4_279_0 (by decide) rfl dX4_append_37 ?_
      rw [e5b]
      refine j_iconst K dX4_append_40 ?_
      refine j_iadd K dX4_append_41 ?_
      refine t_puti K fd_X4_279_0 ⟨_, rfl, Or.inl rfl⟩ (by decide) rfl rfl dX4_append_42 ?_
      exact t_vret K (Nat.le_refl _) (Nat.le_refl _) ((by first | exact Or.inl ⟨by omega, rfl⟩ | exact Or.inr ⟨by omega, rfl⟩ | (exfalso; omega))) dX4_append_45
  · refine j_iconst K dX4_append_10 ?_
    refine z_goto (tgt := 15) K dX4_append_11 rfl ?_
    refine t_puti K fd_X4_79_0 ⟨_, rfl, Or.inl rfl⟩ (by decide) rfl rfl dX4_append_15 ?_
    refine z_aload_n K dX4_append_18 rfl rfl rfl ?_
    refine t_geti K fd_X4_79_0 (by decide) rfl dX4_append_19 ?_
    refine j_if_ne (tgt := 45) K dX4_append_22 rfl (by rw [tset_s]; omega) (fun c_22 => ?_) (fun c_22 => ?_)
    · rw [tset_s] at c_22
      exact t_vret K (Nat.le_refl _) (Nat.le_refl _) ((by first | exact Or.inl ⟨by omega, rfl⟩ | exact Or.inr ⟨by omega, rfl⟩ | (exfalso; omega))) dX4_append_45
    · rw [tset_s] at c_22
      refine z_aload_n K dX4_append_25 rfl rfl rfl ?_
      refine t_geta K fd_X4_16_0 rfl dX4_append_26 ?_
      refine z_aload_n K dX4_append_29 rfl rfl rfl ?_
      refine t_geti K fd_X4_279_0 (by decide) rfl dX4_append_30 ?_
      rw [e5]
      refine z_iload_n K dX4_append_33 rfl rfl ?_
      refine t_cst K 4 80 rfl rfl rfl (by omega) (by omega) rfl hc dX4_append_34 ?_
      refine z_aload_n K dX4_append_35 rfl rfl rfl ?_
      refine z_dup K dX4_append_36 rfl ?_
      refine t_geti K fd_X4_279_0 (by decide) rfl dX4_append_37 ?_
      rw [e5b]
      refine j_iconst K dX4_append_40 ?_
      refine j_iadd K dX4_append_41 ?_
      refine t_puti K fd_X4_279_0 ⟨_, rfl, Or.inl rfl⟩ (by decide) rfl rfl dX4_append_42 ?_
      exact t_vret K (Nat.le_refl _) (Nat.le_refl _) ((by first | exact Or.inl ⟨by omega, rfl⟩ | exact Or.inr ⟨by omega, rfl⟩ | (exfalso; omega))) dX4_append_45
/-- the reader's world: text, its length, place -/
def rdI (w : tW) : Prop := (0 ≤ w 5 0 ∧ w 5 0 ≤ 80) ∧ (0 ≤ w 30 0 ∧ w 30 0 ≤ w 5 0) ∧ (-1 ≤ w 31 0 ∧ w 31 0 ≤ 80) ∧ ∀ i : Nat, i < 80 → 0 ≤ w 4 i ∧ w 4 i ≤ 65535
theorem tw_isDigit {w : tW} (h : rdI w) : tMi yX4_isDigit cX4_isDigit 1 .boolean 2 [] w (fun v w' => v = bI (w 30 0 < w 5 0 ∧ 48 ≤ w 4 (w 30 0).toNat ∧ w 4 (w 30 0).toNat ≤ 57) ∧ w' = w) := by
  refine zMet.of (by decide) (Nat.le_of_ble_eq_true rfl) fun X K => ?_
  obtain ⟨h1, h2, h3, h4⟩ := h
  have h5 := fun q => h4 (w 30 0).toNat q
  refine z_aload_n K dX4_isDigit_0 rfl rfl rfl ?_
  refine t_geti K fd_X4_282_0 (by decide) rfl dX4_isDigit_1 ?_
  refine z_aload_n K dX4_isDigit_4 rfl rfl rfl ?_
  refine t_geti K fd_X4_279_0 (by decide) rfl dX4_isDigit_5 ?_
  refine j_icmp_ge (tgt := 37) K dX4_isDigit_8 rfl (by omega) (by omega) (fun c_8 => ?_) (fun c_8 => ?_)
  · refine j_iconst K dX4_isDigit_37 ?_
    exact t_zret K (by omega) (Nat.le_refl _) (Nat.le_refl _) (⟨by unfold bI; split <;> omega, rfl⟩) dX4_isDigit_38
  · have h6 := h5 (by omega)
    refine z_aload_n K dX4_isDigit_11 rfl rfl rfl ?_
    refine t_geta K fd_X4_16_0 rfl dX4_isDigit_12 ?_
    refine z_aload_n K dX4_isDigit_15 rfl rfl rfl ?_
    refine t_geti K fd_X4_282_0 (by decide) rfl dX4_isDigit_16 ?_
    refine t_cld K 4 80 rfl rfl rfl (by omega) (by omega) rfl dX4_isDigit_19 ?_
    refine j_i2l K (by omega) dX4_isDigit_20 ?_
    refine j_ldc2 K 48 q2243 (by decide +kernel) dX4_isDigit_21 ?_
    refine j_ldc2 K 57 q2244 (by decide +kernel) dX4_isDigit_24 ?_
    refine z_calls K (s_in (by omega) (by omega) (by omega)) cS_X4_82 rfl rfl (by decide) (Nat.le_of_ble_eq_true rfl) (Nat.le_refl _) (Nat.le_refl _) dX4_isDigit_27 ?_
    refine j_if_eq (tgt := 37) K dX4_isDigit_30 rfl (b01r _) (fun c_30 => ?_) (fun c_30 => ?_)
    · rw [bI_eq] at c_30
      refine j_iconst K dX4_isDigit_37 ?_
      exact t_zret K (by omega) (Nat.le_refl _) (Nat.le_refl _) (⟨by unfold bI; split <;> omega, rfl⟩) dX4_isDigit_38
    · rw [bI_ne] at c_30
      refine j_iconst K dX4_isDigit_33 ?_
      refine z_goto (tgt := 38) K dX4_isDigit_34 rfl ?_
      exact t_zret K (by omega) (Nat.le_refl _) (Nat.le_refl _) (⟨by unfold bI; split <;> omega, rfl⟩) dX4_isDigit_38
/-- takes: 1 if the sign is next -/
def tk (w : tW) (c : Int) : Int := bI (w 31 0 < 0 ∧ w 30 0 < w 5 0 ∧ w 4 (w 30 0).toNat = c)
theorem tk_r (w : tW) (c : Int) : tk w c = 0 ∨ tk w c = 1 := b01 _
theorem tw_takes {w : tW} {c : Int} (hc : 0 ≤ c ∧ c ≤ 65535) (h : rdI w) : tMi yX4_takes cX4_takes 3 .boolean 1 [.int (iI c)] w (fun v w' => v = tk w c ∧ w' = tset w 30 0 (w 30 0 + tk w c)) := by
  refine zMet.of (by decide) (Nat.le_of_ble_eq_true rfl) fun X K => ?_
  obtain ⟨h1, h2, h3, h4⟩ := h
  have h5 := fun q => h4 (w 30 0).toNat q
  have fin : ∀ x y : Int, (x = 0 ∨ x = 1) → y = x → x = tk w c → zW X (zPi fun x h' => ∃ v w', x = iI v ∧ h' = tH w' ∧ (v = tk w c ∧ w' = tset w 30 0 (w 30 0 + tk w c))) (tH (tset w 30 0 (w 30 0 + y))) 0 0 55 [(0, .ref 1000), (1, .int (iI c)), (2, .int (iI x))] [] := fun x y hx hy hxy => by
    rw [hy, hxy]
    rw [hxy] at hx
    refine z_iload_n K dX4_takes_55 rfl rfl ?_
    exact t_zret K (by omega) (Nat.le_refl _) (Nat.le_refl _) (⟨rfl, rfl⟩) dX4_takes_56
  have mid : ∀ x : Int, (x = 0 ∨ x = 1) → x = tk w c → ∀ env, zsub env [(0, .ref 1000), (1, .int (iI c)), (2, .int (iI x))] → zW X (zPi fun x h' => ∃ v w', x = iI v ∧ h' = tH w' ∧ (v = tk w c ∧ w' = tset w 30 0 (w 30 0 + tk w c))) (tH w) 0 0 37 env [] := fun x hx hxy env he => by
    refine zW.cut he ?_
    refine z_aload_n K dX4_takes_37 rfl rfl rfl ?_
    refine z_dup K dX4_takes_38 rfl ?_
    refine t_geti K fd_X4_282_0 (by decide) rfl dX4_takes_39 ?_
    refine z_iload_n K dX4_takes_42 rfl rfl ?_
    refine j_if_eq (tgt := 50) K dX4_takes_43 rfl (by omega) (fun c_43 => ?_) (fun c_43 => ?_)
    · refine j_iconst K dX4_takes_50 ?_
      refine j_iadd K dX4_takes_51 ?_
      refine t_puti K fd_X4_282_0 ⟨_, rfl, Or.inl rfl⟩ (by decide) rfl rfl dX4_takes_52 ?_
      exact fin x _ hx (by omega) hxy
    · refine j_iconst K dX4_takes_46 ?_
      refine z_goto (tgt := 51) K dX4_takes_47 rfl ?_
      refine j_iadd K dX4_takes_51 ?_
      refine t_puti K fd_X4_282_0 ⟨_, rfl, Or.inl rfl⟩ (by decide) rfl rfl dX4_takes_52 ?_
      exact fin x _ hx (by omega) hxy
  refine z_aload_n K dX4_takes_0 rfl rfl rfl ?_
  refine t_geti K fd_X4_292_0 (by decide) rfl dX4_takes_1 ?_
  refine j_if_ge (tgt := 35) K dX4_takes_4 rfl (by omega) (fun c_4 => ?_) (fun c_4 => ?_)
  · refine j_iconst K dX4_takes_35 ?_
    refine z_istore_n K dX4_takes_36 rfl (by decide) rfl ?_
    exact mid _ (by omega) (by unfold tk bI; split <;> omega) _ ⟨rfl, rfl, rfl, trivial⟩
  · refine z_aload_n K dX4_takes_7 rfl rfl rfl ?_
    refine t_geti K fd_X4_282_0 (by decide) rfl dX4_takes_8 ?_
    refine z_aload_n K dX4_takes_11 rfl rfl rfl ?_
    refine t_geti K fd_X4_279_0 (by decide) rfl dX4_takes_12 ?_
    refine j_icmp_ge (tgt := 35) K dX4_takes_15 rfl (by omega) (by omega) (fun c_15 => ?_) (fun c_15 => ?_)
    · refine j_iconst K dX4_takes_35 ?_
      refine z_istore_n K dX4_takes_36 rfl (by decide) rfl ?_
      exact mid _ (by omega) (by unfold tk bI; split <;> omega) _ ⟨rfl, rfl, rfl, trivial⟩
    · have h6 := h5 (by omega)
      refine z_aload_n K dX4_takes_18 rfl rfl rfl ?_
      refine t_geta K fd_X4_16_0 rfl dX4_takes_19 ?_
      refine z_aload_n K dX4_takes_22 rfl rfl rfl ?_
      refine t_geti K fd_X4_282_0 (by decide) rfl dX4_takes_23 ?_
      refine t_cld K 4 80 rfl rfl rfl (by omega) (by omega) rfl dX4_takes_26 ?_
      refine z_iload_n K dX4_takes_27 rfl rfl ?_
      refine j_icmp_ne (tgt := 35) K dX4_takes_28 rfl (by omega) (by omega) (fun c_28 => ?_) (fun c_28 => ?_)
      · refine j_iconst K dX4_takes_35 ?_
        refine z_istore_n K dX4_takes_36 rfl (by decide) rfl ?_
        exact mid _ (by omega) (by unfold tk bI; split <;> omega) _ ⟨rfl, rfl, rfl, trivial⟩
      · refine j_iconst K dX4_takes_31 ?_
        refine z_goto (tgt := 36) K dX4_takes_32 rfl ?_
        refine z_istore_n K dX4_takes_36 rfl (by decide) rfl ?_
        exact mid _ (by omega) (by unfold tk bI; split <;> omega) _ ⟨rfl, rfl, rfl, trivial⟩
def wWants (w : tW) (c : Int) : tW := if tk w c = 0 ∧ w 31 0 < 0 then tset (tset w 30 0 (w 30 0)) 31 0 (w 30 0) else tset w 30 0 (w 30 0 + tk w c)
theorem tw_wants {w : tW} {c : Int} (hc : 0 ≤ c ∧ c ≤ 65535) (h : rdI w) : tMv yX4_wants cX4_wants 2 2 [.int (iI c)] w (fun w' => w' = wWants w c) := by
  refine zMet.of (by decide) (Nat.le_of_ble_eq_true rfl) fun X K => ?_
  have hk := tk_r w c
  have h3 := h.2.2.1
  have e31 : ∀ v, tset w 30 0 v 31 0 = w 31 0 := fun v => tset_f (by decide)
  have f1 : ¬ (tk w c = 0 ∧ w 31 0 < 0) → tset w 30 0 (w 30 0 + tk w c) = wWants w c := fun q => by unfold wWants; rw [if_neg q]
  have f2 : tk w c = 0 → w 31 0 < 0 → tset (tset w 30 0 (w 30 0 + tk w c)) 31 0 (tset w 30 0 (w 30 0 + tk w c) 30 0) = wWants w c := fun q r => by unfold wWants; rw [if_pos ⟨q, r⟩, q, tset_s, Int.add_zero]
  refine z_aload_n K dX4_wants_0 rfl rfl rfl ?_
  refine z_iload_n K dX4_wants_1 rfl rfl ?_
  refine t_calli K (tw_takes hc h) cV_X4_298_X4 rfl rfl (by decide) (Nat.le_of_ble_eq_true rfl) (Nat.le_refl _) (Nat.le_refl _) dX4_wants_2 ?_
  rintro _ _ ⟨rfl, rfl⟩
  refine j_if_ne (tgt := 23) K dX4_wants_5 rfl (by omega) (fun c_5 => ?_) (fun c_5 => ?_)
  · exact t_vret K (Nat.le_refl _) (Nat.le_refl _) ((by first | exact f2 (by omega) (by omega) | exact f1 (by omega))) dX4_wants_23
  · refine z_aload_n K dX4_wants_8 rfl rfl rfl ?_
    refine t_geti K fd_X4_292_0 (by decide) rfl dX4_wants_9 ?_
    refine j_if_ge (tgt := 23) K dX4_wants_12 rfl (by rw [e31]; omega) (fun c_12 => ?_) (fun c_12 => ?_)
    · rw [e31] at c_12
      exact t_vret K (Nat.le_refl _) (Nat.le_refl _) ((by first | exact f2 (by omega) (by omega) | exact f1 (by omega))) dX4_wants_23
    · rw [e31] at c_12
      refine z_aload_n K dX4_wants_15 rfl rfl rfl ?_
      refine z_aload_n K dX4_wants_16 rfl rfl rfl ?_
      refine t_geti K fd_X4_282_0 (by decide) rfl dX4_wants_17 ?_
      refine t_puti K fd_X4_292_0 ⟨_, rfl, Or.inl rfl⟩ (by decide) rfl rfl dX4_wants_20 ?_
      exact t_vret K (Nat.le_refl _) (Nat.le_refl _) ((by first | exact f2 (by omega) (by omega) | exact f1 (by omega))) dX4_wants_23
theorem tw_cannot {w : tW} {j y k : Int} (h : -1 ≤ w 33 0 ∧ w 33 0 ≤ 1000) : tMv yX4_cannot cX4_cannot 4 1 [.int (iI j), .int (iI y), .int (iI k)] w (fun w' => w' = if w 33 0 = -1 then tset (tset (tset w 33 0 j) 34 0 y) 35 0 k else w) := by
  refine zMet.of (by decide) (Nat.le_of_ble_eq_true rfl) fun X K => ?_
  have f1 : ∀ q : Prop, [Decidable q] → ∀ a b : tW, (q → (if q then a else b) = a) := fun q _ a b h => if_pos h
  refine z_aload_n K dX4_cannot_0 rfl rfl rfl ?_
  refine t_geti K fd_X4_302_0 (by decide) rfl dX4_cannot_1 ?_
  refine j_iconst K dX4_cannot_4 ?_
  refine j_icmp_ne (tgt := 23) K dX4_cannot_5 rfl (by omega) (by omega) (fun c_5 => ?_) (fun c_5 => ?_)
  · exact t_vret K (Nat.le_refl _) (Nat.le_refl _) ((by first | exact (if_pos (by omega)).symm | exact (if_neg (by omega)).symm)) dX4_cannot_23
  · refine z_aload_n K dX4_cannot_8 rfl rfl rfl ?_
    refine z_iload_n K dX4_cannot_9 rfl rfl ?_
    refine t_puti K fd_X4_302_0 ⟨_, rfl, Or.inl rfl⟩ (by decide) rfl rfl dX4_cannot_10 ?_
    refine z_aload_n K dX4_cannot_13 rfl rfl rfl ?_
    refine z_iload_n K dX4_cannot_14 rfl rfl ?_
    refine t_puti K fd_X4_305_0 ⟨_, rfl, Or.inl rfl⟩ (by decide) rfl rfl dX4_cannot_15 ?_
    refine z_aload_n K dX4_cannot_18 rfl rfl rfl ?_
    refine z_iload_n K dX4_cannot_19 rfl rfl ?_
    refine t_puti K fd_X4_308_0 ⟨_, rfl, Or.inl rfl⟩ (by decide) rfl rfl dX4_cannot_20 ?_
    exact t_vret K (Nat.le_refl _) (Nat.le_refl _) ((by first | exact (if_pos (by omega)).symm | exact (if_neg (by omega)).symm)) dX4_cannot_23

