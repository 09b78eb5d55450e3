/-! ===== the law: its own methods, each out of the contract of the operation that it calls ===== -/
section LW2
variable {h : zH} {R : Int → tW → Prop} {Rv : tW → Prop} {Rd : UInt64 → tW → Prop} {d mc ms : Nat} {x1 x2 x3 x4 : Int32}
theorem updL0 {f : Nat → Int64} {x : Int64} : vp_updL f (iI 0).toNatClampNeg x 0 = x := by
  rw [show (iI 0).toNatClampNeg = 0 by decide +kernel]
  simp [vp_updL]
theorem updD0 {f : Nat → UInt64} {x : UInt64} : vf_upd f (iI 0).toNatClampNeg x 0 = x := by
  rw [show (iI 0).toNatClampNeg = 0 by decide +kernel]
  simp [vf_upd]
theorem lw_addJob (kM : zMet yX1_addJob (ws_ yX1_addJob cX1_addJob 4 (some .int)) d [.ref 1040, .int x1, .int x2, .int x3] h (cQ h R (cdA 22 23 99)) mc ms) (hx : ∃ fs, h 1040 = some (.inr (1, fs))) (h6 : n6 h) (ho : ∃ f, h 1038 = some (.inl (4, 1, .inr (.inl f)))) : zMet yX0_addJob (wsW_ yX0_addJob cX0_addJob 6 (some .int) [(0, 12, 15, 13), (0, 12, 19, 15)]) (d + 1) [.ref 1040, .int x1, .int x2, .int x3, .ref 1038] h (wQ h R) mc ms := by
  obtain ⟨fs0, hx⟩ := hx
  obtain ⟨f0, ho0⟩ := id ho
  refine zMet.ofH (by decide) (Nat.le_of_ble_eq_true rfl) fun X K => ?_
  have hnd1 : ∀ h1 q, wQ h R (.inl (some (.int (iI 1)))) h1 → ∀ env, zsub env [] → zW X (wQ h R) h1 mc ms 15 env [.ref q] := by
    intro h1 q hw env he
    refine zW.cut he ?_
    refine z_astore K dX0_addJob_15 rfl (by decide) rfl ?_
    refine j_iconst K dX0_addJob_17 ?_
    exact z_iret K (by omega) (by omega) (hw) dX0_addJob_18
  have hnd2 : ∀ h1 q, wQ h R (.inl (some (.int (iI 2)))) h1 → ∀ env, zsub env [] → zW X (wQ h R) h1 mc ms 19 env [.ref q] := by
    intro h1 q hw env he
    refine zW.cut he ?_
    refine z_astore K dX0_addJob_19 rfl (by decide) rfl ?_
    refine j_iconst K dX0_addJob_21 ?_
    exact z_iret K (by omega) (by omega) (hw) dX0_addJob_22
  refine z_aload K dX0_addJob_0 rfl rfl ?_
  refine j_iconst K dX0_addJob_2 ?_
  refine z_aload_n K dX0_addJob_3 rfl rfl rfl ?_
  refine z_iload_n K dX0_addJob_4 rfl rfl ?_
  refine z_iload_n K dX0_addJob_5 rfl rfl ?_
  refine z_iload_n K dX0_addJob_6 rfl rfl ?_
  refine z_callV K kM cV_X0_7_X1 hx rfl rfl rfl (by omega) (by omega) (by omega) (Nat.le_of_ble_eq_true rfl) dX0_addJob_7 (fun q h1 hq => ?_) (fun v h1 hq => ?_)
  · obtain ⟨lo, ⟨_, z, _⟩ | ⟨q9, ci, fs, z, hq9, hcd, hr⟩⟩ := hq
    · cases z
    cases z
    rcases cdA_c hcd with ⟨rfl, e⟩ | ⟨rfl, e⟩ | ⟨rfl, e⟩
    · refine z_catch1 K hq9 rfl (by omega) (by decide) q669 q686 ?_
      exact zW.widen (by omega) (by omega) (hnd1 h1 q (wq_ex ho (by omega) lo (fun v9 w9 r => by rw [← e]; exact hr v9 w9 r)) _ trivial)
    · refine z_catch2 K hq9 rfl (by decide) q669 nc_SA (by omega) (by decide) q670 q760 ?_
      exact zW.widen (by omega) (by omega) (hnd2 h1 q (wq_ex ho (by omega) lo (fun v9 w9 r => by rw [← e]; exact hr v9 w9 r)) _ trivial)
    · exact z_noT hq9 (by decide) rfl
  obtain ⟨lo, ⟨v9, z, hr⟩ | ⟨_, _, _, z, _⟩⟩ := hq
  rotate_left
  · cases z
  cases z
  refine z_i2l K dX0_addJob_10 ?_
  refine z_last K ((lo 1038 (by omega)).trans ho0) (by omega) vp0 dX0_addJob_11 ?_
  refine z_goto (tgt := 23) K dX0_addJob_12 rfl ?_
  refine j_iconst K dX0_addJob_23 ?_
  exact z_iret K (by omega) (by omega) (wq_ok h6 lo hr updL0) dX0_addJob_24
theorem lw_addOperation (kM : zMet yX1_addOperation (ws_ yX1_addOperation cX1_addOperation 5 (some .int)) d [.ref 1040, .int x1, .int x2, .int x3, .int x4] h (cQ h R (cdA 24 22 23)) mc ms) (hx : ∃ fs, h 1040 = some (.inr (1, fs))) (h6 : n6 h) (ho : ∃ f, h 1038 = some (.inl (4, 1, .inr (.inl f)))) : zMet yX0_addOperation (wsW_ yX0_addOperation cX0_addOperation 7 (some .int) [(0, 14, 17, 21), (0, 14, 21, 13), (0, 14, 25, 15)]) (d + 1) [.ref 1040, .int x1, .int x2, .int x3, .int x4, .ref 1038] h (wQ h R) mc ms := by
  obtain ⟨fs0, hx⟩ := hx
  obtain ⟨f0, ho0⟩ := id ho
  refine zMet.ofH (by decide) (Nat.le_of_ble_eq_true rfl) fun X K => ?_
  have hnd1 : ∀ h1 q, wQ h R (.inl (some (.int (iI 1)))) h1 → ∀ env, zsub env [] → zW X (wQ h R) h1 mc ms 17 env [.ref q] := by
    intro h1 q hw env he
    refine zW.cut he ?_
    refine z_astore K dX0_addOperation_17 rfl (by decide) rfl ?_
    refine j_iconst K dX0_addOperation_19 ?_
    exact z_iret K (by omega) (by omega) (hw) dX0_addOperation_20
  have hnd2 : ∀ h1 q, wQ h R (.inl (some (.int (iI 2)))) h1 → ∀ env, zsub env [] → zW X (wQ h R) h1 mc ms 21 env [.ref q] := by
    intro h1 q hw env he
    refine zW.cut he ?_
    refine z_astore K dX0_addOperation_21 rfl (by decide) rfl ?_
    refine j_iconst K dX0_addOperation_23 ?_
    exact z_iret K (by omega) (by omega) (hw) dX0_addOperation_24
  have hnd3 : ∀ h1 q, wQ h R (.inl (some (.int (iI 3)))) h1 → ∀ env, zsub env [] → zW X (wQ h R) h1 mc ms 25 env [.ref q] := by
    intro h1 q hw env he
    refine zW.cut he ?_
    refine z_astore K dX0_addOperation_25 rfl (by decide) rfl ?_
    refine j_iconst K dX0_addOperation_27 ?_
    exact z_iret K (by omega) (by omega) (hw) dX0_addOperation_28
  refine z_aload K dX0_addOperation_0 rfl rfl ?_
  refine j_iconst K dX0_addOperation_2 ?_
  refine z_aload_n K dX0_addOperation_3 rfl rfl rfl ?_
  refine z_iload_n K dX0_addOperation_4 rfl rfl ?_
  refine z_iload_n K dX0_addOperation_5 rfl rfl ?_
  refine z_iload_n K dX0_addOperation_6 rfl rfl ?_
  refine z_iload K dX0_addOperation_7 rfl ?_
  refine z_callV K kM cV_X0_17_X1 hx rfl rfl rfl (by omega) (by omega) (by omega) (Nat.le_of_ble_eq_true rfl) dX0_addOperation_9 (fun q h1 hq => ?_) (fun v h1 hq => ?_)
  · obtain ⟨lo, ⟨_, z, _⟩ | ⟨q9, ci, fs, z, hq9, hcd, hr⟩⟩ := hq
    · cases z
    cases z
    rcases cdA_c hcd with ⟨rfl, e⟩ | ⟨rfl, e⟩ | ⟨rfl, e⟩
    · refine z_catch1 K hq9 rfl (by omega) (by decide) q778 q819 ?_
      exact zW.widen (by omega) (by omega) (hnd1 h1 q (wq_ex ho (by omega) lo (fun v9 w9 r => by rw [← e]; exact hr v9 w9 r)) _ trivial)
    · refine z_catch2 K hq9 rfl (by decide) q778 nc_AI (by omega) (by decide) q669 q686 ?_
      exact zW.widen (by omega) (by omega) (hnd2 h1 q (wq_ex ho (by omega) lo (fun v9 w9 r => by rw [← e]; exact hr v9 w9 r)) _ trivial)
    · refine z_catch3 K hq9 rfl (by decide) q778 nc_SI (by decide) q669 nc_SA (by omega) (by decide) q670 q760 ?_
      exact zW.widen (by omega) (by omega) (hnd3 h1 q (wq_ex ho (by omega) lo (fun v9 w9 r => by rw [← e]; exact hr v9 w9 r)) _ trivial)
  obtain ⟨lo, ⟨v9, z, hr⟩ | ⟨_, _, _, z, _⟩⟩ := hq
  rotate_left
  · cases z
  cases z
  refine z_i2l K dX0_addOperation_12 ?_
  refine z_last K ((lo 1038 (by omega)).trans ho0) (by omega) vp0 dX0_addOperation_13 ?_
  refine z_goto (tgt := 29) K dX0_addOperation_14 rfl ?_
  refine j_iconst K dX0_addOperation_29 ?_
  exact z_iret K (by omega) (by omega) (wq_ok h6 lo hr updL0) dX0_addOperation_30
theorem lw_setJob (kM : zMet yX1_setJob (ws_ yX1_setJob cX1_setJob 6 (some .int)) d [.ref 1040, .int x1, .int x2, .int x3] h (cQ h R (cdA 24 22 99)) mc ms) (hx : ∃ fs, h 1040 = some (.inr (1, fs))) (h6 : n6 h) (ho : ∃ f, h 1038 = some (.inl (4, 1, .inr (.inl f)))) : zMet yX0_setJob (wsW_ yX0_setJob cX0_setJob 6 (some .int) [(0, 12, 15, 21), (0, 12, 19, 13)]) (d + 1) [.ref 1040, .int x1, .int x2, .int x3, .ref 1038] h (wQ h R) mc ms := by
  obtain ⟨fs0, hx⟩ := hx
  obtain ⟨f0, ho0⟩ := id ho
  refine zMet.ofH (by decide) (Nat.le_of_ble_eq_true rfl) fun X K => ?_
  have hnd1 : ∀ h1 q, wQ h R (.inl (some (.int (iI 1)))) h1 → ∀ env, zsub env [] → zW X (wQ h R) h1 mc ms 15 env [.ref q] := by
    intro h1 q hw env he
    refine zW.cut he ?_
    refine z_astore K dX0_setJob_15 rfl (by decide) rfl ?_
    refine j_iconst K dX0_setJob_17 ?_
    exact z_iret K (by omega) (by omega) (hw) dX0_setJob_18
  have hnd2 : ∀ h1 q, wQ h R (.inl (some (.int (iI 2)))) h1 → ∀ env, zsub env [] → zW X (wQ h R) h1 mc ms 19 env [.ref q] := by
    intro h1 q hw env he
    refine zW.cut he ?_
    refine z_astore K dX0_setJob_19 rfl (by decide) rfl ?_
    refine j_iconst K dX0_setJob_21 ?_
    exact z_iret K (by omega) (by omega) (hw) dX0_setJob_22
  refine z_aload K dX0_setJob_0 rfl rfl ?_
  refine j_iconst K dX0_setJob_2 ?_
  refine z_aload_n K dX0_setJob_3 rfl rfl rfl ?_
  refine z_iload_n K dX0_setJob_4 rfl rfl ?_
  refine z_iload_n K dX0_setJob_5 rfl rfl ?_
  refine z_iload_n K dX0_setJob_6 rfl rfl ?_
  refine z_callV K kM cV_X0_23_X1 hx rfl rfl rfl (by omega) (by omega) (by omega) (Nat.le_of_ble_eq_true rfl) dX0_setJob_7 (fun q h1 hq => ?_) (fun v h1 hq => ?_)
  · obtain ⟨lo, ⟨_, z, _⟩ | ⟨q9, ci, fs, z, hq9, hcd, hr⟩⟩ := hq
    · cases z
    cases z
    rcases cdA_c hcd with ⟨rfl, e⟩ | ⟨rfl, e⟩ | ⟨rfl, e⟩
    · refine z_catch1 K hq9 rfl (by omega) (by decide) q778 q819 ?_
      exact zW.widen (by omega) (by omega) (hnd1 h1 q (wq_ex ho (by omega) lo (fun v9 w9 r => by rw [← e]; exact hr v9 w9 r)) _ trivial)
    · refine z_catch2 K hq9 rfl (by decide) q778 nc_AI (by omega) (by decide) q669 q686 ?_
      exact zW.widen (by omega) (by omega) (hnd2 h1 q (wq_ex ho (by omega) lo (fun v9 w9 r => by rw [← e]; exact hr v9 w9 r)) _ trivial)
    · exact z_noT hq9 (by decide) rfl
  obtain ⟨lo, ⟨v9, z, hr⟩ | ⟨_, _, _, z, _⟩⟩ := hq
  rotate_left
  · cases z
  cases z
  refine z_i2l K dX0_setJob_10 ?_
  refine z_last K ((lo 1038 (by omega)).trans ho0) (by omega) vp0 dX0_setJob_11 ?_
  refine z_goto (tgt := 23) K dX0_setJob_12 rfl ?_
  refine j_iconst K dX0_setJob_23 ?_
  exact z_iret K (by omega) (by omega) (wq_ok h6 lo hr updL0) dX0_setJob_24
theorem lw_setDuration (kM : zMet yX1_setDuration (ws_ yX1_setDuration cX1_setDuration 5 (some .int)) d [.ref 1040, .int x1, .int x2] h (cQ h R (cdA 24 22 99)) mc ms) (hx : ∃ fs, h 1040 = some (.inr (1, fs))) (h6 : n6 h) (ho : ∃ f, h 1038 = some (.inl (4, 1, .inr (.inl f)))) : zMet yX0_setDuration (wsW_ yX0_setDuration cX0_setDuration 5 (some .int) [(0, 10, 13, 21), (0, 10, 17, 13)]) (d + 1) [.ref 1040, .int x1, .int x2, .ref 1038] h (wQ h R) mc ms := by
  obtain ⟨fs0, hx⟩ := hx
  obtain ⟨f0, ho0⟩ := id ho
  refine zMet.ofH (by decide) (Nat.le_of_ble_eq_true rfl) fun X K => ?_
  have hnd1 : ∀ h1 q, wQ h R (.inl (some (.int (iI 1)))) h1 → ∀ env, zsub env [] → zW X (wQ h R) h1 mc ms 13 env [.ref q] := by
    intro h1 q hw env he
    refine zW.cut he ?_
    refine z_astore K dX0_setDuration_13 rfl (by decide) rfl ?_
    refine j_iconst K dX0_setDuration_15 ?_
    exact z_iret K (by omega) (by omega) (hw) dX0_setDuration_16
  have hnd2 : ∀ h1 q, wQ h R (.inl (some (.int (iI 2)))) h1 → ∀ env, zsub env [] → zW X (wQ h R) h1 mc ms 17 env [.ref q] := by
    intro h1 q hw env he
    refine zW.cut he ?_
    refine z_astore K dX0_setDuration_17 rfl (by decide) rfl ?_
    refine j_iconst K dX0_setDuration_19 ?_
    exact z_iret K (by omega) (by omega) (hw) dX0_setDuration_20
  refine z_aload_n K dX0_setDuration_0 rfl rfl rfl ?_
  refine j_iconst K dX0_setDuration_1 ?_
  refine z_aload_n K dX0_setDuration_2 rfl rfl rfl ?_
  refine z_iload_n K dX0_setDuration_3 rfl rfl ?_
  refine z_iload_n K dX0_setDuration_4 rfl rfl ?_
  refine z_callV K kM cV_X0_26_X1 hx rfl rfl rfl (by omega) (by omega) (by omega) (Nat.le_of_ble_eq_true rfl) dX0_setDuration_5 (fun q h1 hq => ?_) (fun v h1 hq => ?_)
  · obtain ⟨lo, ⟨_, z, _⟩ | ⟨q9, ci, fs, z, hq9, hcd, hr⟩⟩ := hq
    · cases z
    cases z
    rcases cdA_c hcd with ⟨rfl, e⟩ | ⟨rfl, e⟩ | ⟨rfl, e⟩
    · refine z_catch1 K hq9 rfl (by omega) (by decide) q778 q819 ?_
      exact zW.widen (by omega) (by omega) (hnd1 h1 q (wq_ex ho (by omega) lo (fun v9 w9 r => by rw [← e]; exact hr v9 w9 r)) _ trivial)
    · refine z_catch2 K hq9 rfl (by decide) q778 nc_AI (by omega) (by decide) q669 q686 ?_
      exact zW.widen (by omega) (by omega) (hnd2 h1 q (wq_ex ho (by omega) lo (fun v9 w9 r => by rw [← e]; exact hr v9 w9 r)) _ trivial)
    · exact z_noT hq9 (by decide) rfl
  obtain ⟨lo, ⟨v9, z, hr⟩ | ⟨_, _, _, z, _⟩⟩ := hq
  rotate_left
  · cases z
  cases z
  refine z_i2l K dX0_setDuration_8 ?_
  refine z_last K ((lo 1038 (by omega)).trans ho0) (by omega) vp0 dX0_setDuration_9 ?_
  refine z_goto (tgt := 21) K dX0_setDuration_10 rfl ?_
  refine j_iconst K dX0_setDuration_21 ?_
  exact z_iret K (by omega) (by omega) (wq_ok h6 lo hr updL0) dX0_setDuration_22
theorem lw_setSetup (kM : zMet yX1_setSetup (ws_ yX1_setSetup cX1_setSetup 5 (some .int)) d [.ref 1040, .int x1, .int x2, .int x3] h (cQ h R (cdA 24 22 99)) mc ms) (hx : ∃ fs, h 1040 = some (.inr (1, fs))) (h6 : n6 h) (ho : ∃ f, h 1038 = some (.inl (4, 1, .inr (.inl f)))) : zMet yX0_setSetup (wsW_ yX0_setSetup cX0_setSetup 6 (some .int) [(0, 12, 15, 21), (0, 12, 19, 13)]) (d + 1) [.ref 1040, .int x1, .int x2, .int x3, .ref 1038] h (wQ h R) mc ms := by
  obtain ⟨fs0, hx⟩ := hx
  obtain ⟨f0, ho0⟩ := id ho
  refine zMet.ofH (by decide) (Nat.le_of_ble_eq_true rfl) fun X K => ?_
  have hnd1 : ∀ h1 q, wQ h R (.inl (some (.int (iI 1)))) h1 → ∀ env, zsub env [] → zW X (wQ h R) h1 mc ms 15 env [.ref q] := by
    intro h1 q hw env he
    refine zW.cut he ?_
    refine z_astore K dX0_setSetup_15 rfl (by decide) rfl ?_
    refine j_iconst K dX0_setSetup_17 ?_
    exact z_iret K (by omega) (by omega) (hw) dX0_setSetup_18
  have hnd2 : ∀ h1 q, wQ h R (.inl (some (.int (iI 2)))) h1 → ∀ env, zsub env [] → zW X (wQ h R) h1 mc ms 19 env [.ref q] := by
    intro h1 q hw env he
    refine zW.cut he ?_
    refine z_astore K dX0_setSetup_19 rfl (by decide) rfl ?_
    refine j_iconst K dX0_setSetup_21 ?_
    exact z_iret K (by omega) (by omega) (hw) dX0_setSetup_22
  refine z_aload K dX0_setSetup_0 rfl rfl ?_
  refine j_iconst K dX0_setSetup_2 ?_
  refine z_aload_n K dX0_setSetup_3 rfl rfl rfl ?_
  refine z_iload_n K dX0_setSetup_4 rfl rfl ?_
  refine z_iload_n K dX0_setSetup_5 rfl rfl ?_
  refine z_iload_n K dX0_setSetup_6 rfl rfl ?_
  refine z_callV K kM cV_X0_30_X1 hx rfl rfl rfl (by omega) (by omega) (by omega) (Nat.le_of_ble_eq_true rfl) dX0_setSetup_7 (fun q h1 hq => ?_) (fun v h1 hq => ?_)
  · obtain ⟨lo, ⟨_, z, _⟩ | ⟨q9, ci, fs, z, hq9, hcd, hr⟩⟩ := hq
    · cases z
    cases z
    rcases cdA_c hcd with ⟨rfl, e⟩ | ⟨rfl, e⟩ | ⟨rfl, e⟩
    · refine z_catch1 K hq9 rfl (by omega) (by decide) q778 q819 ?_
      exact zW.widen (by omega) (by omega) (hnd1 h1 q (wq_ex ho (by omega) lo (fun v9 w9 r => by rw [← e]; exact hr v9 w9 r)) _ trivial)
    · refine z_catch2 K hq9 rfl (by decide) q778 nc_AI (by omega) (by decide) q669 q686 ?_
      exact zW.widen (by omega) (by omega) (hnd2 h1 q (wq_ex ho (by omega) lo (fun v9 w9 r => by rw [← e]; exact hr v9 w9 r)) _ trivial)
    · exact z_noT hq9 (by decide) rfl
  obtain ⟨lo, ⟨v9, z, hr⟩ | ⟨_, _, _, z, _⟩⟩ := hq
  rotate_left
  · cases z
  cases z
  refine z_i2l K dX0_setSetup_10 ?_
  refine z_last K ((lo 1038 (by omega)).trans ho0) (by omega) vp0 dX0_setSetup_11 ?_
  refine z_goto (tgt := 23) K dX0_setSetup_12 rfl ?_
  refine j_iconst K dX0_setSetup_23 ?_
  exact z_iret K (by omega) (by omega) (wq_ok h6 lo hr updL0) dX0_setSetup_24
theorem lw_addBreakdown (kM : zMet yX1_addBreakdown (ws_ yX1_addBreakdown cX1_addBreakdown 5 (some .int)) d [.ref 1040, .int x1, .int x2, .int x3] h (cQ h R (cdA 24 22 23)) mc ms) (hx : ∃ fs, h 1040 = some (.inr (1, fs))) (h6 : n6 h) (ho : ∃ f, h 1038 = some (.inl (4, 1, .inr (.inl f)))) : zMet yX0_addBreakdown (wsW_ yX0_addBreakdown cX0_addBreakdown 6 (some .int) [(0, 12, 15, 21), (0, 12, 19, 13), (0, 12, 23, 15)]) (d + 1) [.ref 1040, .int x1, .int x2, .int x3, .ref 1038] h (wQ h R) mc ms := by
  obtain ⟨fs0, hx⟩ := hx
  obtain ⟨f0, ho0⟩ := id ho
  refine zMet.ofH (by decide) (Nat.le_of_ble_eq_true rfl) fun X K => ?_
  have hnd1 : ∀ h1 q, wQ h R (.inl (some (.int (iI 1)))) h1 → ∀ env, zsub env [] → zW X (wQ h R) h1 mc ms 15 env [.ref q] := by
    intro h1 q hw env he
    refine zW.cut he ?_
    refine z_astore K dX0_addBreakdown_15 rfl (by decide) rfl ?_
    refine j_iconst K dX0_addBreakdown_17 ?_
    exact z_iret K (by omega) (by omega) (hw) dX0_addBreakdown_18
  have hnd2 : ∀ h1 q, wQ h R (.inl (some (.int (iI 2)))) h1 → ∀ env, zsub env [] → zW X (wQ h R) h1 mc ms 19 env [.ref q] := by
    intro h1 q hw env he
    refine zW.cut he ?_
    refine z_astore K dX0_addBreakdown_19 rfl (by decide) rfl ?_
    refine j_iconst K dX0_addBreakdown_21 ?_
    exact z_iret K (by omega) (by omega) (hw) dX0_addBreakdown_22
  have hnd3 : ∀ h1 q, wQ h R (.inl (some (.int (iI 3)))) h1 → ∀ env, zsub env [] → zW X (wQ h R) h1 mc ms 23 env [.ref q] := by
    intro h1 q hw env he
    refine zW.cut he ?_
    refine z_astore K dX0_addBreakdown_23 rfl (by decide) rfl ?_
    refine j_iconst K dX0_addBreakdown_25 ?_
    exact z_iret K (by omega) (by omega) (hw) dX0_addBreakdown_26
  refine z_aload K dX0_addBreakdown_0 rfl rfl ?_
  refine j_iconst K dX0_addBreakdown_2 ?_
  refine z_aload_n K dX0_addBreakdown_3 rfl rfl rfl ?_
  refine z_iload_n K dX0_addBreakdown_4 rfl rfl ?_
  refine z_iload_n K dX0_addBreakdown_5 rfl rfl ?_
  refine z_iload_n K dX0_addBreakdown_6 rfl rfl ?_
  refine z_callV K kM cV_X0_33_X1 hx rfl rfl rfl (by omega) (by omega) (by omega) (Nat.le_of_ble_eq_true rfl) dX0_addBreakdown_7 (fun q h1 hq => ?_) (fun v h1 hq => ?_)
  · obtain ⟨lo, ⟨_, z, _⟩ | ⟨q9, ci, fs, z, hq9, hcd, hr⟩⟩ := hq
    · cases z
    cases z
    rcases cdA_c hcd with ⟨rfl, e⟩ | ⟨rfl, e⟩ | ⟨rfl, e⟩
    · refine z_catch1 K hq9 rfl (by omega) (by decide) q778 q819 ?_
      exact zW.widen (by omega) (by omega) (hnd1 h1 q (wq_ex ho (by omega) lo (fun v9 w9 r => by rw [← e]; exact hr v9 w9 r)) _ trivial)
    · refine z_catch2 K hq9 rfl (by decide) q778 nc_AI (by omega) (by decide) q669 q686 ?_
      exact zW.widen (by omega) (by omega) (hnd2 h1 q (wq_ex ho (by omega) lo (fun v9 w9 r => by rw [← e]; exact hr v9 w9 r)) _ trivial)
    · refine z_catch3 K hq9 rfl (by decide) q778 nc_SI (by decide) q669 nc_SA (by omega) (by decide) q670 q760 ?_
      exact zW.widen (by omega) (by omega) (hnd3 h1 q (wq_ex ho (by omega) lo (fun v9 w9 r => by rw [← e]; exact hr v9 w9 r)) _ trivial)
  obtain ⟨lo, ⟨v9, z, hr⟩ | ⟨_, _, _, z, _⟩⟩ := hq
  rotate_left
  · cases z
  cases z
  refine z_i2l K dX0_addBreakdown_10 ?_
  refine z_last K ((lo 1038 (by omega)).trans ho0) (by omega) vp0 dX0_addBreakdown_11 ?_
  refine z_goto (tgt := 27) K dX0_addBreakdown_12 rfl ?_
  refine j_iconst K dX0_addBreakdown_27 ?_
  exact z_iret K (by omega) (by omega) (wq_ok h6 lo hr updL0) dX0_addBreakdown_28
theorem lw_clearBreakdowns (kM : zMet yX1_clearBreakdowns (ws_ yX1_clearBreakdowns cX1_clearBreakdowns 3 (some .int)) d [.ref 1040, .int x1] h (cQ h R (cdA 24 99 99)) mc ms) (hx : ∃ fs, h 1040 = some (.inr (1, fs))) (h6 : n6 h) (ho : ∃ f, h 1038 = some (.inl (4, 1, .inr (.inl f)))) : zMet yX0_clearBreakdowns (wsW_ yX0_clearBreakdowns cX0_clearBreakdowns 4 (some .int) [(0, 9, 12, 21)]) (d + 1) [.ref 1040, .int x1, .ref 1038] h (wQ h R) mc ms := by
  obtain ⟨fs0, hx⟩ := hx
  obtain ⟨f0, ho0⟩ := id ho
  refine zMet.ofH (by decide) (Nat.le_of_ble_eq_true rfl) fun X K => ?_
  have hnd1 : ∀ h1 q, wQ h R (.inl (some (.int (iI 1)))) h1 → ∀ env, zsub env [] → zW X (wQ h R) h1 mc ms 12 env [.ref q] := by
    intro h1 q hw env he
    refine zW.cut he ?_
    refine z_astore_n K dX0_clearBreakdowns_12 rfl rfl (by decide) rfl ?_
    refine j_iconst K dX0_clearBreakdowns_13 ?_
    exact z_iret K (by omega) (by omega) (hw) dX0_clearBreakdowns_14
  refine z_aload_n K dX0_clearBreakdowns_0 rfl rfl rfl ?_
  refine j_iconst K dX0_clearBreakdowns_1 ?_
  refine z_aload_n K dX0_clearBreakdowns_2 rfl rfl rfl ?_
  refine z_iload_n K dX0_clearBreakdowns_3 rfl rfl ?_
  refine z_callV K kM cV_X0_36_X1 hx rfl rfl rfl (by omega) (by omega) (by omega) (Nat.le_of_ble_eq_true rfl) dX0_clearBreakdowns_4 (fun q h1 hq => ?_) (fun v h1 hq => ?_)
  · obtain ⟨lo, ⟨_, z, _⟩ | ⟨q9, ci, fs, z, hq9, hcd, hr⟩⟩ := hq
    · cases z
    cases z
    rcases cdA_c hcd with ⟨rfl, e⟩ | ⟨rfl, e⟩ | ⟨rfl, e⟩
    · refine z_catch1 K hq9 rfl (by omega) (by decide) q778 q819 ?_
      exact zW.widen (by omega) (by omega) (hnd1 h1 q (wq_ex ho (by omega) lo (fun v9 w9 r => by rw [← e]; exact hr v9 w9 r)) _ trivial)
    · exact z_noT hq9 (by decide) rfl
    · exact z_noT hq9 (by decide) rfl
  obtain ⟨lo, ⟨v9, z, hr⟩ | ⟨_, _, _, z, _⟩⟩ := hq
  rotate_left
  · cases z
  cases z
  refine z_i2l K dX0_clearBreakdowns_7 ?_
  refine z_last K ((lo 1038 (by omega)).trans ho0) (by omega) vp0 dX0_clearBreakdowns_8 ?_
  refine z_goto (tgt := 15) K dX0_clearBreakdowns_9 rfl ?_
  refine j_iconst K dX0_clearBreakdowns_15 ?_
  exact z_iret K (by omega) (by omega) (wq_ok h6 lo hr updL0) dX0_clearBreakdowns_16
theorem lw_count (kM : zMet yX1_count (ws_ yX1_count cX1_count 2 (some .int)) d [.ref 1040, .int x1] h (cQ h R (cdA 22 99 99)) mc ms) (hx : ∃ fs, h 1040 = some (.inr (1, fs))) (h6 : n6 h) (ho : ∃ f, h 1038 = some (.inl (4, 1, .inr (.inl f)))) : zMet yX0_count (wsW_ yX0_count cX0_count 4 (some .int) [(0, 9, 12, 13)]) (d + 1) [.ref 1040, .int x1, .ref 1038] h (wQ h R) mc ms := by
  obtain ⟨fs0, hx⟩ := hx
  obtain ⟨f0, ho0⟩ := id ho
  refine zMet.ofH (by decide) (Nat.le_of_ble_eq_true rfl) fun X K => ?_
  have hnd1 : ∀ h1 q, wQ h R (.inl (some (.int (iI 1)))) h1 → ∀ env, zsub env [] → zW X (wQ h R) h1 mc ms 12 env [.ref q] := by
    intro h1 q hw env he
    refine zW.cut he ?_
    refine z_astore_n K dX0_count_12 rfl rfl (by decide) rfl ?_
    refine j_iconst K dX0_count_13 ?_
    exact z_iret K (by omega) (by omega) (hw) dX0_count_14
  refine z_aload_n K dX0_count_0 rfl rfl rfl ?_
  refine j_iconst K dX0_count_1 ?_
  refine z_aload_n K dX0_count_2 rfl rfl rfl ?_
  refine z_iload_n K dX0_count_3 rfl rfl ?_
  refine z_callV K kM cV_X0_40_X1 hx rfl rfl rfl (by omega) (by omega) (by omega) (Nat.le_of_ble_eq_true rfl) dX0_count_4 (fun q h1 hq => ?_) (fun v h1 hq => ?_)
  · obtain ⟨lo, ⟨_, z, _⟩ | ⟨q9, ci, fs, z, hq9, hcd, hr⟩⟩ := hq
    · cases z
    cases z
    rcases cdA_c hcd with ⟨rfl, e⟩ | ⟨rfl, e⟩ | ⟨rfl, e⟩
    · refine z_catch1 K hq9 rfl (by omega) (by decide) q669 q686 ?_
      exact zW.widen (by omega) (by omega) (hnd1 h1 q (wq_ex ho (by omega) lo (fun v9 w9 r => by rw [← e]; exact hr v9 w9 r)) _ trivial)
    · exact z_noT hq9 (by decide) rfl
    · exact z_noT hq9 (by decide) rfl
  obtain ⟨lo, ⟨v9, z, hr⟩ | ⟨_, _, _, z, _⟩⟩ := hq
  rotate_left
  · cases z
  cases z
  refine z_i2l K dX0_count_7 ?_
  refine z_last K ((lo 1038 (by omega)).trans ho0) (by omega) vp0 dX0_count_8 ?_
  refine z_goto (tgt := 15) K dX0_count_9 rfl ?_
  refine j_iconst K dX0_count_15 ?_
  exact z_iret K (by omega) (by omega) (wq_ok h6 lo hr updL0) dX0_count_16
theorem lw_property (kM : zMet yX1_property (ws_ yX1_property cX1_property 4 (some .int)) d [.ref 1040, .int x1, .int x2] h (cQ h R (cdA 24 22 99)) mc ms) (hx : ∃ fs, h 1040 = some (.inr (1, fs))) (h6 : n6 h) (ho : ∃ f, h 1038 = some (.inl (4, 1, .inr (.inl f)))) : zMet yX0_property (wsW_ yX0_property cX0_property 5 (some .int) [(0, 10, 13, 21), (0, 10, 17, 13)]) (d + 1) [.ref 1040, .int x1, .int x2, .ref 1038] h (wQ h R) mc ms := by
  obtain ⟨fs0, hx⟩ := hx
  obtain ⟨f0, ho0⟩ := id ho
  refine zMet.ofH (by decide) (Nat.le_of_ble_eq_true rfl) fun X K => ?_
  have hnd1 : ∀ h1 q, wQ h R (.inl (some (.int (iI 1)))) h1 → ∀ env, zsub env [] → zW X (wQ h R) h1 mc ms 13 env [.ref q] := by
    intro h1 q hw env he
    refine zW.cut he ?_
    refine z_astore K dX0_property_13 rfl (by decide) rfl ?_
    refine j_iconst K dX0_property_15 ?_
    exact z_iret K (by omega) (by omega) (hw) dX0_property_16
  have hnd2 : ∀ h1 q, wQ h R (.inl (some (.int (iI 2)))) h1 → ∀ env, zsub env [] → zW X (wQ h R) h1 mc ms 17 env [.ref q] := by
    intro h1 q hw env he
    refine zW.cut he ?_
    refine z_astore K dX0_property_17 rfl (by decide) rfl ?_
    refine j_iconst K dX0_property_19 ?_
    exact z_iret K (by omega) (by omega) (hw) dX0_property_20
  refine z_aload_n K dX0_property_0 rfl rfl rfl ?_
  refine j_iconst K dX0_property_1 ?_
  refine z_aload_n K dX0_property_2 rfl rfl rfl ?_
  refine z_iload_n K dX0_property_3 rfl rfl ?_
  refine z_iload_n K dX0_property_4 rfl rfl ?_
  refine z_callV K kM cV_X0_43_X1 hx rfl rfl rfl (by omega) (by omega) (by omega) (Nat.le_of_ble_eq_true rfl) dX0_property_5 (fun q h1 hq => ?_) (fun v h1 hq => ?_)
  · obtain ⟨lo, ⟨_, z, _⟩ | ⟨q9, ci, fs, z, hq9, hcd, hr⟩⟩ := hq
    · cases z
    cases z
    rcases cdA_c hcd with ⟨rfl, e⟩ | ⟨rfl, e⟩ | ⟨rfl, e⟩
    · refine z_catch1 K hq9 rfl (by omega) (by decide) q778 q819 ?_
      exact zW.widen (by omega) (by omega) (hnd1 h1 q (wq_ex ho (by omega) lo (fun v9 w9 r => by rw [← e]; exact hr v9 w9 r)) _ trivial)
    · refine z_catch2 K hq9 rfl (by decide) q778 nc_AI (by omega) (by decide) q669 q686 ?_
      exact zW.widen (by omega) (by omega) (hnd2 h1 q (wq_ex ho (by omega) lo (fun v9 w9 r => by rw [← e]; exact hr v9 w9 r)) _ trivial)
    · exact z_noT hq9 (by decide) rfl
  obtain ⟨lo, ⟨v9, z, hr⟩ | ⟨_, _, _, z, _⟩⟩ := hq
  rotate_left
  · cases z
  cases z
  refine z_i2l K dX0_property_8 ?_
  refine z_last K ((lo 1038 (by omega)).trans ho0) (by omega) vp0 dX0_property_9 ?_
  refine z_goto (tgt := 21) K dX0_property_10 rfl ?_
  refine j_iconst K dX0_property_21 ?_
  exact z_iret K (by omega) (by omega) (wq_ok h6 lo hr updL0) dX0_property_22
theorem lw_order (kM : zMet yX1_order (ws_ yX1_order cX1_order 4 (some .int)) d [.ref 1040, .int x1, .int x2] h (cQ h R (cdA 24 25 99)) mc ms) (hx : ∃ fs, h 1040 = some (.inr (1, fs))) (h6 : n6 h) (ho : ∃ f, h 1038 = some (.inl (4, 1, .inr (.inl f)))) : zMet yX0_order (wsW_ yX0_order cX0_order 5 (some .int) [(0, 10, 13, 21), (0, 10, 17, 49)]) (d + 1) [.ref 1040, .int x1, .int x2, .ref 1038] h (wQ h R) mc ms := by
  obtain ⟨fs0, hx⟩ := hx
  obtain ⟨f0, ho0⟩ := id ho
  refine zMet.ofH (by decide) (Nat.le_of_ble_eq_true rfl) fun X K => ?_
  have hnd1 : ∀ h1 q, wQ h R (.inl (some (.int (iI 1)))) h1 → ∀ env, zsub env [] → zW X (wQ h R) h1 mc ms 13 env [.ref q] := by
    intro h1 q hw env he
    refine zW.cut he ?_
    refine z_astore K dX0_order_13 rfl (by decide) rfl ?_
    refine j_iconst K dX0_order_15 ?_
    exact z_iret K (by omega) (by omega) (hw) dX0_order_16
  have hnd2 : ∀ h1 q, wQ h R (.inl (some (.int (iI 2)))) h1 → ∀ env, zsub env [] → zW X (wQ h R) h1 mc ms 17 env [.ref q] := by
    intro h1 q hw env he
    refine zW.cut he ?_
    refine z_astore K dX0_order_17 rfl (by decide) rfl ?_
    refine j_iconst K dX0_order_19 ?_
    exact z_iret K (by omega) (by omega) (hw) dX0_order_20
  refine z_aload_n K dX0_order_0 rfl rfl rfl ?_
  refine j_iconst K dX0_order_1 ?_
  refine z_aload_n K dX0_order_2 rfl rfl rfl ?_
  refine z_iload_n K dX0_order_3 rfl rfl ?_
  refine z_iload_n K dX0_order_4 rfl rfl ?_
  refine z_callV K kM cV_X0_46_X1 hx rfl rfl rfl (by omega) (by omega) (by omega) (Nat.le_of_ble_eq_true rfl) dX0_order_5 (fun q h1 hq => ?_) (fun v h1 hq => ?_)
  · obtain ⟨lo, ⟨_, z, _⟩ | ⟨q9, ci, fs, z, hq9, hcd, hr⟩⟩ := hq
    · cases z
    cases z
    rcases cdA_c hcd with ⟨rfl, e⟩ | ⟨rfl, e⟩ | ⟨rfl, e⟩
    · refine z_catch1 K hq9 rfl (by omega) (by decide) q778 q819 ?_
      exact zW.widen (by omega) (by omega) (hnd1 h1 q (wq_ex ho (by omega) lo (fun v9 w9 r => by rw [← e]; exact hr v9 w9 r)) _ trivial)
    · refine z_catch2 K hq9 rfl (by decide) q778 nc_NI (by omega) (by decide) q925 q939 ?_
      exact zW.widen (by omega) (by omega) (hnd2 h1 q (wq_ex ho (by omega) lo (fun v9 w9 r => by rw [← e]; exact hr v9 w9 r)) _ trivial)
    · exact z_noT hq9 (by decide) rfl
  obtain ⟨lo, ⟨v9, z, hr⟩ | ⟨_, _, _, z, _⟩⟩ := hq
  rotate_left
  · cases z
  cases z
  refine z_i2l K dX0_order_8 ?_
  refine z_last K ((lo 1038 (by omega)).trans ho0) (by omega) vp0 dX0_order_9 ?_
  refine z_goto (tgt := 21) K dX0_order_10 rfl ?_
  refine j_iconst K dX0_order_21 ?_
  exact z_iret K (by omega) (by omega) (wq_ok h6 lo hr updL0) dX0_order_22
theorem lw_time (kM : zMet yX1_time (ws_ yX1_time cX1_time 3 (some .int)) d [.ref 1040, .int x1, .int x2] h (cQ h R (cdA 24 22 99)) mc ms) (hx : ∃ fs, h 1040 = some (.inr (1, fs))) (h6 : n6 h) (ho : ∃ f, h 1038 = some (.inl (4, 1, .inr (.inl f)))) : zMet yX0_time (wsW_ yX0_time cX0_time 5 (some .int) [(0, 10, 13, 21), (0, 10, 17, 13)]) (d + 1) [.ref 1040, .int x1, .int x2, .ref 1038] h (wQ h R) mc ms := by
  obtain ⟨fs0, hx⟩ := hx
  obtain ⟨f0, ho0⟩ := id ho
  refine zMet.ofH (by decide) (Nat.le_of_ble_eq_true rfl) fun X K => ?_
  have hnd1 : ∀ h1 q, wQ h R (.inl (some (.int (iI 1)))) h1 → ∀ env, zsub env [] → zW X (wQ h R) h1 mc ms 13 env [.ref q] := by
    intro h1 q hw env he
    refine zW.cut he ?_
    refine z_astore K dX0_time_13 rfl (by decide) rfl ?_
    refine j_iconst K dX0_time_15 ?_
    exact z_iret K (by omega) (by omega) (hw) dX0_time_16
  have hnd2 : ∀ h1 q, wQ h R (.inl (some (.int (iI 2)))) h1 → ∀ env, zsub env [] → zW X (wQ h R) h1 mc ms 17 env [.ref q] := by
    intro h1 q hw env he
    refine zW.cut he ?_
    refine z_astore K dX0_time_17 rfl (by decide) rfl ?_
    refine j_iconst K dX0_time_19 ?_
    exact z_iret K (by omega) (by omega) (hw) dX0_time_20
  refine z_aload_n K dX0_time_0 rfl rfl rfl ?_
  refine j_iconst K dX0_time_1 ?_
  refine z_aload_n K dX0_time_2 rfl rfl rfl ?_
  refine z_iload_n K dX0_time_3 rfl rfl ?_
  refine z_iload_n K dX0_time_4 rfl rfl ?_
  refine z_callV K kM cV_X0_51_X1 hx rfl rfl rfl (by omega) (by omega) (by omega) (Nat.le_of_ble_eq_true rfl) dX0_time_5 (fun q h1 hq => ?_) (fun v h1 hq => ?_)
  · obtain ⟨lo, ⟨_, z, _⟩ | ⟨q9, ci, fs, z, hq9, hcd, hr⟩⟩ := hq
    · cases z
    cases z
    rcases cdA_c hcd with ⟨rfl, e⟩ | ⟨rfl, e⟩ | ⟨rfl, e⟩
    · refine z_catch1 K hq9 rfl (by omega) (by decide) q778 q819 ?_
      exact zW.widen (by omega) (by omega) (hnd1 h1 q (wq_ex ho (by omega) lo (fun v9 w9 r => by rw [← e]; exact hr v9 w9 r)) _ trivial)
    · refine z_catch2 K hq9 rfl (by decide) q778 nc_AI (by omega) (by decide) q669 q686 ?_
      exact zW.widen (by omega) (by omega) (hnd2 h1 q (wq_ex ho (by omega) lo (fun v9 w9 r => by rw [← e]; exact hr v9 w9 r)) _ trivial)
    · exact z_noT hq9 (by decide) rfl
  obtain ⟨lo, ⟨v9, z, hr⟩ | ⟨_, _, _, z, _⟩⟩ := hq
  rotate_left
  · cases z
  cases z
  refine z_i2l K dX0_time_8 ?_
  refine z_last K ((lo 1038 (by omega)).trans ho0) (by omega) vp0 dX0_time_9 ?_
  refine z_goto (tgt := 21) K dX0_time_10 rfl ?_
  refine j_iconst K dX0_time_21 ?_
  exact z_iret K (by omega) (by omega) (wq_ok h6 lo hr updL0) dX0_time_22
theorem lw_slack (kM : zMet yX1_slack (ws_ yX1_slack cX1_slack 5 (some .int)) d [.ref 1040, .int x1] h (cQ h R (cdA 24 99 99)) mc ms) (hx : ∃ fs, h 1040 = some (.inr (1, fs))) (h6 : n6 h) (ho : ∃ f, h 1038 = some (.inl (4, 1, .inr (.inl f)))) : zMet yX0_slack (wsW_ yX0_slack cX0_slack 4 (some .int) [(0, 9, 12, 21)]) (d + 1) [.ref 1040, .int x1, .ref 1038] h (wQ h R) mc ms := by
  obtain ⟨fs0, hx⟩ := hx
  obtain ⟨f0, ho0⟩ := id ho
  refine zMet.ofH (by decide) (Nat.le_of_ble_eq_true rfl) fun X K => ?_
  have hnd1 : ∀ h1 q, wQ h R (.inl (some (.int (iI 1)))) h1 → ∀ env, zsub env [] → zW X (wQ h R) h1 mc ms 12 env [.ref q] := by
    intro h1 q hw env he
    refine zW.cut he ?_
    refine z_astore_n K dX0_slack_12 rfl rfl (by decide) rfl ?_
    refine j_iconst K dX0_slack_13 ?_
    exact z_iret K (by omega) (by omega) (hw) dX0_slack_14
  refine z_aload_n K dX0_slack_0 rfl rfl rfl ?_
  refine j_iconst K dX0_slack_1 ?_
  refine z_aload_n K dX0_slack_2 rfl rfl rfl ?_
  refine z_iload_n K dX0_slack_3 rfl rfl ?_
  refine z_callV K kM cV_X0_54_X1 hx rfl rfl rfl (by omega) (by omega) (by omega) (Nat.le_of_ble_eq_true rfl) dX0_slack_4 (fun q h1 hq => ?_) (fun v h1 hq => ?_)
  · obtain ⟨lo, ⟨_, z, _⟩ | ⟨q9, ci, fs, z, hq9, hcd, hr⟩⟩ := hq
    · cases z
    cases z
    rcases cdA_c hcd with ⟨rfl, e⟩ | ⟨rfl, e⟩ | ⟨rfl, e⟩
    · refine z_catch1 K hq9 rfl (by omega) (by decide) q778 q819 ?_
      exact zW.widen (by omega) (by omega) (hnd1 h1 q (wq_ex ho (by omega) lo (fun v9 w9 r => by rw [← e]; exact hr v9 w9 r)) _ trivial)
    · exact z_noT hq9 (by decide) rfl
    · exact z_noT hq9 (by decide) rfl
  obtain ⟨lo, ⟨v9, z, hr⟩ | ⟨_, _, _, z, _⟩⟩ := hq
  rotate_left
  · cases z
  cases z
  refine z_i2l K dX0_slack_7 ?_
  refine z_last K ((lo 1038 (by omega)).trans ho0) (by omega) vp0 dX0_slack_8 ?_
  refine z_goto (tgt := 15) K dX0_slack_9 rfl ?_
  refine j_iconst K dX0_slack_15 ?_
  exact z_iret K (by omega) (by omega) (wq_ok h6 lo hr updL0) dX0_slack_16
theorem lw_completion (kM : zMet yX1_completion (ws_ yX1_completion cX1_completion 2 (some .int)) d [.ref 1040, .int x1] h (cQ h R (cdA 24 99 99)) mc ms) (hx : ∃ fs, h 1040 = some (.inr (1, fs))) (h6 : n6 h) (ho : ∃ f, h 1038 = some (.inl (4, 1, .inr (.inl f)))) : zMet yX0_completion (wsW_ yX0_completion cX0_completion 4 (some .int) [(0, 9, 12, 21)]) (d + 1) [.ref 1040, .int x1, .ref 1038] h (wQ h R) mc ms := by
  obtain ⟨fs0, hx⟩ := hx
  obtain ⟨f0, ho0⟩ := id ho
  refine zMet.ofH (by decide) (Nat.le_of_ble_eq_true rfl) fun X K => ?_
  have hnd1 : ∀ h1 q, wQ h R (.inl (some (.int (iI 1)))) h1 → ∀ env, zsub env [] → zW X (wQ h R) h1 mc ms 12 env [.ref q] := by
    intro h1 q hw env he
    refine zW.cut he ?_
    refine z_astore_n K dX0_completion_12 rfl rfl (by decide) rfl ?_
    refine j_iconst K dX0_completion_13 ?_
    exact z_iret K (by omega) (by omega) (hw) dX0_completion_14
  refine z_aload_n K dX0_completion_0 rfl rfl rfl ?_
  refine j_iconst K dX0_completion_1 ?_
  refine z_aload_n K dX0_completion_2 rfl rfl rfl ?_
  refine z_iload_n K dX0_completion_3 rfl rfl ?_
  refine z_callV K kM cV_X0_57_X1 hx rfl rfl rfl (by omega) (by omega) (by omega) (Nat.le_of_ble_eq_true rfl) dX0_completion_4 (fun q h1 hq => ?_) (fun v h1 hq => ?_)
  · obtain ⟨lo, ⟨_, z, _⟩ | ⟨q9, ci, fs, z, hq9, hcd, hr⟩⟩ := hq
    · cases z
    cases z
    rcases cdA_c hcd with ⟨rfl, e⟩ | ⟨rfl, e⟩ | ⟨rfl, e⟩
    · refine z_catch1 K hq9 rfl (by omega) (by decide) q778 q819 ?_
      exact zW.widen (by omega) (by omega) (hnd1 h1 q (wq_ex ho (by omega) lo (fun v9 w9 r => by rw [← e]; exact hr v9 w9 r)) _ trivial)
    · exact z_noT hq9 (by decide) rfl
    · exact z_noT hq9 (by decide) rfl
  obtain ⟨lo, ⟨v9, z, hr⟩ | ⟨_, _, _, z, _⟩⟩ := hq
  rotate_left
  · cases z
  cases z
  refine z_i2l K dX0_completion_7 ?_
  refine z_last K ((lo 1038 (by omega)).trans ho0) (by omega) vp0 dX0_completion_8 ?_
  refine z_goto (tgt := 15) K dX0_completion_9 rfl ?_
  refine j_iconst K dX0_completion_15 ?_
  exact z_iret K (by omega) (by omega) (wq_ok h6 lo hr updL0) dX0_completion_16
theorem lw_objective (kM : zMet yX1_objective (ws_ yX1_objective cX1_objective 2 (some .int)) d [.ref 1040, .int x1] h (cQ h R (cdA 22 99 99)) mc ms) (hx : ∃ fs, h 1040 = some (.inr (1, fs))) (h6 : n6 h) (ho : ∃ f, h 1038 = some (.inl (4, 1, .inr (.inl f)))) : zMet yX0_objective (wsW_ yX0_objective cX0_objective 4 (some .int) [(0, 9, 12, 13)]) (d + 1) [.ref 1040, .int x1, .ref 1038] h (wQ h R) mc ms := by
  obtain ⟨fs0, hx⟩ := hx
  obtain ⟨f0, ho0⟩ := id ho
  refine zMet.ofH (by decide) (Nat.le_of_ble_eq_true rfl) fun X K => ?_
  have hnd1 : ∀ h1 q, wQ h R (.inl (some (.int (iI 1)))) h1 → ∀ env, zsub env [] → zW X (wQ h R) h1 mc ms 12 env [.ref q] := by
    intro h1 q hw env he
    refine zW.cut he ?_
    refine z_astore_n K dX0_objective_12 rfl rfl (by decide) rfl ?_
    refine j_iconst K dX0_objective_13 ?_
    exact z_iret K (by omega) (by omega) (hw) dX0_objective_14
  refine z_aload_n K dX0_objective_0 rfl rfl rfl ?_
  refine j_iconst K dX0_objective_1 ?_
  refine z_aload_n K dX0_objective_2 rfl rfl rfl ?_
  refine z_iload_n K dX0_objective_3 rfl rfl ?_
  refine z_callV K kM cV_X0_60_X1 hx rfl rfl rfl (by omega) (by omega) (by omega) (Nat.le_of_ble_eq_true rfl) dX0_objective_4 (fun q h1 hq => ?_) (fun v h1 hq => ?_)
  · obtain ⟨lo, ⟨_, z, _⟩ | ⟨q9, ci, fs, z, hq9, hcd, hr⟩⟩ := hq
    · cases z
    cases z
    rcases cdA_c hcd with ⟨rfl, e⟩ | ⟨rfl, e⟩ | ⟨rfl, e⟩
    · refine z_catch1 K hq9 rfl (by omega) (by decide) q669 q686 ?_
      exact zW.widen (by omega) (by omega) (hnd1 h1 q (wq_ex ho (by omega) lo (fun v9 w9 r => by rw [← e]; exact hr v9 w9 r)) _ trivial)
    · exact z_noT hq9 (by decide) rfl
    · exact z_noT hq9 (by decide) rfl
  obtain ⟨lo, ⟨v9, z, hr⟩ | ⟨_, _, _, z, _⟩⟩ := hq
  rotate_left
  · cases z
  cases z
  refine z_i2l K dX0_objective_7 ?_
  refine z_last K ((lo 1038 (by omega)).trans ho0) (by omega) vp0 dX0_objective_8 ?_
  refine z_goto (tgt := 15) K dX0_objective_9 rfl ?_
  refine j_iconst K dX0_objective_15 ?_
  exact z_iret K (by omega) (by omega) (wq_ok h6 lo hr updL0) dX0_objective_16
theorem lw_utilization (kM : zMet yX1_utilization (ws_ yX1_utilization cX1_utilization 6 (some .double)) d [.ref 1040, .int x1] h (cQd h Rd (cdA 24 99 99)) mc ms) (hx : ∃ fs, h 1040 = some (.inr (1, fs))) (h6 : n6 h) (ho : ∃ f, h 1039 = some (.inl (5, 1, .inr (.inr (.inr (.inl f)))))) : zMet yX0_utilization (wsW_ yX0_utilization cX0_utilization 4 (some .int) [(0, 8, 11, 21)]) (d + 1) [.ref 1040, .int x1, .ref 1039] h (wQd h Rd) mc ms := by
  obtain ⟨fs0, hx⟩ := hx
  obtain ⟨f0, ho0⟩ := id ho
  refine zMet.ofH (by decide) (Nat.le_of_ble_eq_true rfl) fun X K => ?_
  have hnd1 : ∀ h1 q, wQd h Rd (.inl (some (.int (iI 1)))) h1 → ∀ env, zsub env [] → zW X (wQd h Rd) h1 mc ms 11 env [.ref q] := by
    intro h1 q hw env he
    refine zW.cut he ?_
    refine z_astore_n K dX0_utilization_11 rfl rfl (by decide) rfl ?_
    refine j_iconst K dX0_utilization_12 ?_
    exact z_iret K (by omega) (by omega) (hw) dX0_utilization_13
  refine z_aload_n K dX0_utilization_0 rfl rfl rfl ?_
  refine j_iconst K dX0_utilization_1 ?_
  refine z_aload_n K dX0_utilization_2 rfl rfl rfl ?_
  refine z_iload_n K dX0_utilization_3 rfl rfl ?_
  refine z_callV K kM cV_X0_63_X1 hx rfl rfl rfl (by omega) (by omega) (by omega) (Nat.le_of_ble_eq_true rfl) dX0_utilization_4 (fun q h1 hq => ?_) (fun v h1 hq => ?_)
  · obtain ⟨lo, ⟨_, z, _⟩ | ⟨q9, ci, fs, z, hq9, hcd, hr⟩⟩ := hq
    · cases z
    cases z
    rcases cdA_c hcd with ⟨rfl, e⟩ | ⟨rfl, e⟩ | ⟨rfl, e⟩
    · refine z_catch1 K hq9 rfl (by omega) (by decide) q778 q819 ?_
      exact zW.widen (by omega) (by omega) (hnd1 h1 q (wqd_ex ho (by omega) lo (fun v9 w9 r => by rw [← e]; exact hr v9 w9 r)) _ trivial)
    · exact z_noT hq9 (by decide) rfl
    · exact z_noT hq9 (by decide) rfl
  obtain ⟨lo, ⟨v9, z, hr⟩ | ⟨_, _, _, z, _⟩⟩ := hq
  rotate_left
  · cases z
  cases z
  refine z_dast K ((lo 1039 (by omega)).trans ho0) (by omega) vp0 dX0_utilization_7 ?_
  refine z_goto (tgt := 14) K dX0_utilization_8 rfl ?_
  refine j_iconst K dX0_utilization_14 ?_
  exact z_iret K (by omega) (by omega) (wqd_ok h6 lo hr updD0) dX0_utilization_15
theorem lw_path (kM : zMet yX1_path (ws_ yX1_path cX1_path 3 (some .int)) d [.ref 1040, .int x1] h (cQ h R (cdA 25 99 99)) mc ms) (hx : ∃ fs, h 1040 = some (.inr (1, fs))) (h6 : n6 h) (ho : ∃ f, h 1038 = some (.inl (4, 1, .inr (.inl f)))) : zMet yX0_path (wsW_ yX0_path cX0_path 4 (some .int) [(0, 9, 12, 49)]) (d + 1) [.ref 1040, .int x1, .ref 1038] h (wQ h R) mc ms := by
  obtain ⟨fs0, hx⟩ := hx
  obtain ⟨f0, ho0⟩ := id ho
  refine zMet.ofH (by decide) (Nat.le_of_ble_eq_true rfl) fun X K => ?_
  have hnd1 : ∀ h1 q, wQ h R (.inl (some (.int (iI 1)))) h1 → ∀ env, zsub env [] → zW X (wQ h R) h1 mc ms 12 env [.ref q] := by
    intro h1 q hw env he
    refine zW.cut he ?_
    refine z_astore_n K dX0_path_12 rfl rfl (by decide) rfl ?_
    refine j_iconst K dX0_path_13 ?_
    exact z_iret K (by omega) (by omega) (hw) dX0_path_14
  refine z_aload_n K dX0_path_0 rfl rfl rfl ?_
  refine j_iconst K dX0_path_1 ?_
  refine z_aload_n K dX0_path_2 rfl rfl rfl ?_
  refine z_iload_n K dX0_path_3 rfl rfl ?_
  refine z_callV K kM cV_X0_67_X1 hx rfl rfl rfl (by omega) (by omega) (by omega) (Nat.le_of_ble_eq_true rfl) dX0_path_4 (fun q h1 hq => ?_) (fun v h1 hq => ?_)
  · obtain ⟨lo, ⟨_, z, _⟩ | ⟨q9, ci, fs, z, hq9, hcd, hr⟩⟩ := hq
    · cases z
    cases z
    rcases cdA_c hcd with ⟨rfl, e⟩ | ⟨rfl, e⟩ | ⟨rfl, e⟩
    · refine z_catch1 K hq9 rfl (by omega) (by decide) q925 q939 ?_
      exact zW.widen (by omega) (by omega) (hnd1 h1 q (wq_ex ho (by omega) lo (fun v9 w9 r => by rw [← e]; exact hr v9 w9 r)) _ trivial)
    · exact z_noT hq9 (by decide) rfl
    · exact z_noT hq9 (by decide) rfl
  obtain ⟨lo, ⟨v9, z, hr⟩ | ⟨_, _, _, z, _⟩⟩ := hq
  rotate_left
  · cases z
  cases z
  refine z_i2l K dX0_path_7 ?_
  refine z_last K ((lo 1038 (by omega)).trans ho0) (by omega) vp0 dX0_path_8 ?_
  refine z_goto (tgt := 15) K dX0_path_9 rfl ?_
  refine j_iconst K dX0_path_15 ?_
  exact z_iret K (by omega) (by omega) (wq_ok h6 lo hr updL0) dX0_path_16
theorem lw_blockLength (kM : zMet yX1_blockLength (ws_ yX1_blockLength cX1_blockLength 3 (some .int)) d [.ref 1040, .int x1] h (cQ h R (cdA 25 99 99)) mc ms) (hx : ∃ fs, h 1040 = some (.inr (1, fs))) (h6 : n6 h) (ho : ∃ f, h 1038 = some (.inl (4, 1, .inr (.inl f)))) : zMet yX0_blockLength (wsW_ yX0_blockLength cX0_blockLength 4 (some .int) [(0, 9, 12, 49)]) (d + 1) [.ref 1040, .int x1, .ref 1038] h (wQ h R) mc ms := by
  obtain ⟨fs0, hx⟩ := hx
  obtain ⟨f0, ho0⟩ := id ho
  refine zMet.ofH (by decide) (Nat.le_of_ble_eq_true rfl) fun X K => ?_
  have hnd1 : ∀ h1 q, wQ h R (.inl (some (.int (iI 1)))) h1 → ∀ env, zsub env [] → zW X (wQ h R) h1 mc ms 12 env [.ref q] := by
    intro h1 q hw env he
    refine zW.cut he ?_
    refine z_astore_n K dX0_blockLength_12 rfl rfl (by decide) rfl ?_
    refine j_iconst K dX0_blockLength_13 ?_
    exact z_iret K (by omega) (by omega) (hw) dX0_blockLength_14
  refine z_aload_n K dX0_blockLength_0 rfl rfl rfl ?_
  refine j_iconst K dX0_blockLength_1 ?_
  refine z_aload_n K dX0_blockLength_2 rfl rfl rfl ?_
  refine z_iload_n K dX0_blockLength_3 rfl rfl ?_
  refine z_callV K kM cV_X0_70_X1 hx rfl rfl rfl (by omega) (by omega) (by omega) (Nat.le_of_ble_eq_true rfl) dX0_blockLength_4 (fun q h1 hq => ?_) (fun v h1 hq => ?_)
  · obtain ⟨lo, ⟨_, z, _⟩ | ⟨q9, ci, fs, z, hq9, hcd, hr⟩⟩ := hq
    · cases z
    cases z
    rcases cdA_c hcd with ⟨rfl, e⟩ | ⟨rfl, e⟩ | ⟨rfl, e⟩
    · refine z_catch1 K hq9 rfl (by omega) (by decide) q925 q939 ?_
      exact zW.widen (by omega) (by omega) (hnd1 h1 q (wq_ex ho (by omega) lo (fun v9 w9 r => by rw [← e]; exact hr v9 w9 r)) _ trivial)
    · exact z_noT hq9 (by decide) rfl
    · exact z_noT hq9 (by decide) rfl
  obtain ⟨lo, ⟨v9, z, hr⟩ | ⟨_, _, _, z, _⟩⟩ := hq
  rotate_left
  · cases z
  cases z
  refine z_i2l K dX0_blockLength_7 ?_
  refine z_last K ((lo 1038 (by omega)).trans ho0) (by omega) vp0 dX0_blockLength_8 ?_
  refine z_goto (tgt := 15) K dX0_blockLength_9 rfl ?_
  refine j_iconst K dX0_blockLength_15 ?_
  exact z_iret K (by omega) (by omega) (wq_ok h6 lo hr updL0) dX0_blockLength_16
theorem lw_swap (kM : zMet yX1_swap (ws_ yX1_swap cX1_swap 5 (some .int)) d [.ref 1040, .int x1, .int x2] h (cQ h R (cdA 24 25 23)) mc ms) (hx : ∃ fs, h 1040 = some (.inr (1, fs))) (h6 : n6 h) (ho : ∃ f, h 1038 = some (.inl (4, 1, .inr (.inl f)))) : zMet yX0_swap (wsW_ yX0_swap cX0_swap 5 (some .int) [(0, 10, 13, 21), (0, 10, 17, 49), (0, 10, 21, 15)]) (d + 1) [.ref 1040, .int x1, .int x2, .ref 1038] h (wQ h R) mc ms := by
  obtain ⟨fs0, hx⟩ := hx
  obtain ⟨f0, ho0⟩ := id ho
  refine zMet.ofH (by decide) (Nat.le_of_ble_eq_true rfl) fun X K => ?_
  have hnd1 : ∀ h1 q, wQ h R (.inl (some (.int (iI 1)))) h1 → ∀ env, zsub env [] → zW X (wQ h R) h1 mc ms 13 env [.ref q] := by
    intro h1 q hw env he
    refine zW.cut he ?_
    refine z_astore K dX0_swap_13 rfl (by decide) rfl ?_
    refine j_iconst K dX0_swap_15 ?_
    exact z_iret K (by omega) (by omega) (hw) dX0_swap_16
  have hnd2 : ∀ h1 q, wQ h R (.inl (some (.int (iI 2)))) h1 → ∀ env, zsub env [] → zW X (wQ h R) h1 mc ms 17 env [.ref q] := by
    intro h1 q hw env he
    refine zW.cut he ?_
    refine z_astore K dX0_swap_17 rfl (by decide) rfl ?_
    refine j_iconst K dX0_swap_19 ?_
    exact z_iret K (by omega) (by omega) (hw) dX0_swap_20
  have hnd3 : ∀ h1 q, wQ h R (.inl (some (.int (iI 3)))) h1 → ∀ env, zsub env [] → zW X (wQ h R) h1 mc ms 21 env [.ref q] := by
    intro h1 q hw env he
    refine zW.cut he ?_
    refine z_astore K dX0_swap_21 rfl (by decide) rfl ?_
    refine j_iconst K dX0_swap_23 ?_
    exact z_iret K (by omega) (by omega) (hw) dX0_swap_24
  refine z_aload_n K dX0_swap_0 rfl rfl rfl ?_
  refine j_iconst K dX0_swap_1 ?_
  refine z_aload_n K dX0_swap_2 rfl rfl rfl ?_
  refine z_iload_n K dX0_swap_3 rfl rfl ?_
  refine z_iload_n K dX0_swap_4 rfl rfl ?_
  refine z_callV K kM cV_X0_73_X1 hx rfl rfl rfl (by omega) (by omega) (by omega) (Nat.le_of_ble_eq_true rfl) dX0_swap_5 (fun q h1 hq => ?_) (fun v h1 hq => ?_)
  · obtain ⟨lo, ⟨_, z, _⟩ | ⟨q9, ci, fs, z, hq9, hcd, hr⟩⟩ := hq
    · cases z
    cases z
    rcases cdA_c hcd with ⟨rfl, e⟩ | ⟨rfl, e⟩ | ⟨rfl, e⟩
    · refine z_catch1 K hq9 rfl (by omega) (by decide) q778 q819 ?_
      exact zW.widen (by omega) (by omega) (hnd1 h1 q (wq_ex ho (by omega) lo (fun v9 w9 r => by rw [← e]; exact hr v9 w9 r)) _ trivial)
    · refine z_catch2 K hq9 rfl (by decide) q778 nc_NI (by omega) (by decide) q925 q939 ?_
      exact zW.widen (by omega) (by omega) (hnd2 h1 q (wq_ex ho (by omega) lo (fun v9 w9 r => by rw [← e]; exact hr v9 w9 r)) _ trivial)
    · refine z_catch3 K hq9 rfl (by decide) q778 nc_SI (by decide) q925 nc_SN (by omega) (by decide) q670 q760 ?_
      exact zW.widen (by omega) (by omega) (hnd3 h1 q (wq_ex ho (by omega) lo (fun v9 w9 r => by rw [← e]; exact hr v9 w9 r)) _ trivial)
  obtain ⟨lo, ⟨v9, z, hr⟩ | ⟨_, _, _, z, _⟩⟩ := hq
  rotate_left
  · cases z
  cases z
  refine z_i2l K dX0_swap_8 ?_
  refine z_last K ((lo 1038 (by omega)).trans ho0) (by omega) vp0 dX0_swap_9 ?_
  refine z_goto (tgt := 25) K dX0_swap_10 rfl ?_
  refine j_iconst K dX0_swap_25 ?_
  exact z_iret K (by omega) (by omega) (wq_ok h6 lo hr updL0) dX0_swap_26
theorem lw_move (kM : zMet yX1_move (ws_ yX1_move cX1_move 5 (some .int)) d [.ref 1040, .int x1, .int x2] h (cQ h R (cdA 24 22 23)) mc ms) (hx : ∃ fs, h 1040 = some (.inr (1, fs))) (h6 : n6 h) (ho : ∃ f, h 1038 = some (.inl (4, 1, .inr (.inl f)))) : zMet yX0_move (wsW_ yX0_move cX0_move 5 (some .int) [(0, 10, 13, 21), (0, 10, 17, 13), (0, 10, 21, 15)]) (d + 1) [.ref 1040, .int x1, .int x2, .ref 1038] h (wQ h R) mc ms := by
  obtain ⟨fs0, hx⟩ := hx
  obtain ⟨f0, ho0⟩ := id ho
  refine zMet.ofH (by decide) (Nat.le_of_ble_eq_true rfl) fun X K => ?_
  have hnd1 : ∀ h1 q, wQ h R (.inl (some (.int (iI 1)))) h1 → ∀ env, zsub env [] → zW X (wQ h R) h1 mc ms 13 env [.ref q] := by
    intro h1 q hw env he
    refine zW.cut he ?_
    refine z_astore K dX0_move_13 rfl (by decide) rfl ?_
    refine j_iconst K dX0_move_15 ?_
    exact z_iret K (by omega) (by omega) (hw) dX0_move_16
  have hnd2 : ∀ h1 q, wQ h R (.inl (some (.int (iI 2)))) h1 → ∀ env, zsub env [] → zW X (wQ h R) h1 mc ms 17 env [.ref q] := by
    intro h1 q hw env he
    refine zW.cut he ?_
    refine z_astore K dX0_move_17 rfl (by decide) rfl ?_
    refine j_iconst K dX0_move_19 ?_
    exact z_iret K (by omega) (by omega) (hw) dX0_move_20
  have hnd3 : ∀ h1 q, wQ h R (.inl (some (.int (iI 3)))) h1 → ∀ env, zsub env [] → zW X (wQ h R) h1 mc ms 21 env [.ref q] := by
    intro h1 q hw env he
    refine zW.cut he ?_
    refine z_astore K dX0_move_21 rfl (by decide) rfl ?_
    refine j_iconst K dX0_move_23 ?_
    exact z_iret K (by omega) (by omega) (hw) dX0_move_24
  refine z_aload_n K dX0_move_0 rfl rfl rfl ?_
  refine j_iconst K dX0_move_1 ?_
  refine z_aload_n K dX0_move_2 rfl rfl rfl ?_
  refine z_iload_n K dX0_move_3 rfl rfl ?_
  refine z_iload_n K dX0_move_4 rfl rfl ?_
  refine z_callV K kM cV_X0_76_X1 hx rfl rfl rfl (by omega) (by omega) (by omega) (Nat.le_of_ble_eq_true rfl) dX0_move_5 (fun q h1 hq => ?_) (fun v h1 hq => ?_)
  · obtain ⟨lo, ⟨_, z, _⟩ | ⟨q9, ci, fs, z, hq9, hcd, hr⟩⟩ := hq
    · cases z
    cases z
    rcases cdA_c hcd with ⟨rfl, e⟩ | ⟨rfl, e⟩ | ⟨rfl, e⟩
    · refine z_catch1 K hq9 rfl (by omega) (by decide) q778 q819 ?_
      exact zW.widen (by omega) (by omega) (hnd1 h1 q (wq_ex ho (by omega) lo (fun v9 w9 r => by rw [← e]; exact hr v9 w9 r)) _ trivial)
    · refine z_catch2 K hq9 rfl (by decide) q778 nc_AI (by omega) (by decide) q669 q686 ?_
      exact zW.widen (by omega) (by omega) (hnd2 h1 q (wq_ex ho (by omega) lo (fun v9 w9 r => by rw [← e]; exact hr v9 w9 r)) _ trivial)
    · refine z_catch3 K hq9 rfl (by decide) q778 nc_SI (by decide) q669 nc_SA (by omega) (by decide) q670 q760 ?_
      exact zW.widen (by omega) (by omega) (hnd3 h1 q (wq_ex ho (by omega) lo (fun v9 w9 r => by rw [← e]; exact hr v9 w9 r)) _ trivial)
  obtain ⟨lo, ⟨v9, z, hr⟩ | ⟨_, _, _, z, _⟩⟩ := hq
  rotate_left
  · cases z
  cases z
  refine z_i2l K dX0_move_8 ?_
  refine z_last K ((lo 1038 (by omega)).trans ho0) (by omega) vp0 dX0_move_9 ?_
  refine z_goto (tgt := 25) K dX0_move_10 rfl ?_
  refine j_iconst K dX0_move_25 ?_
  exact z_iret K (by omega) (by omega) (wq_ok h6 lo hr updL0) dX0_move_26
theorem lw_dispatch (kM : zMet yX1_dispatch (ws_ yX1_dispatch cX1_dispatch 2 (some .int)) d [.ref 1040, .int x1] h (cQ h R (cdA 22 99 99)) mc ms) (hx : ∃ fs, h 1040 = some (.inr (1, fs))) (h6 : n6 h) (ho : ∃ f, h 1038 = some (.inl (4, 1, .inr (.inl f)))) : zMet yX0_dispatch (wsW_ yX0_dispatch cX0_dispatch 4 (some .int) [(0, 9, 12, 13)]) (d + 1) [.ref 1040, .int x1, .ref 1038] h (wQ h R) mc ms := by
  obtain ⟨fs0, hx⟩ := hx
  obtain ⟨f0, ho0⟩ := id ho
  refine zMet.ofH (by decide) (Nat.le_of_ble_eq_true rfl) fun X K => ?_
  have hnd1 : ∀ h1 q, wQ h R (.inl (some (.int (iI 1)))) h1 → ∀ env, zsub env [] → zW X (wQ h R) h1 mc ms 12 env [.ref q] := by
    intro h1 q hw env he
    refine zW.cut he ?_
    refine z_astore_n K dX0_dispatch_12 rfl rfl (by decide) rfl ?_
    refine j_iconst K dX0_dispatch_13 ?_
    exact z_iret K (by omega) (by omega) (hw) dX0_dispatch_14
  refine z_aload_n K dX0_dispatch_0 rfl rfl rfl ?_
  refine j_iconst K dX0_dispatch_1 ?_
  refine z_aload_n K dX0_dispatch_2 rfl rfl rfl ?_
  refine z_iload_n K dX0_dispatch_3 rfl rfl ?_
  refine z_callV K kM cV_X0_79_X1 hx rfl rfl rfl (by omega) (by omega) (by omega) (Nat.le_of_ble_eq_true rfl) dX0_dispatch_4 (fun q h1 hq => ?_) (fun v h1 hq => ?_)
  · obtain ⟨lo, ⟨_, z, _⟩ | ⟨q9, ci, fs, z, hq9, hcd, hr⟩⟩ := hq
    · cases z
    cases z
    rcases cdA_c hcd with ⟨rfl, e⟩ | ⟨rfl, e⟩ | ⟨rfl, e⟩
    · refine z_catch1 K hq9 rfl (by omega) (by decide) q669 q686 ?_
      exact zW.widen (by omega) (by omega) (hnd1 h1 q (wq_ex ho (by omega) lo (fun v9 w9 r => by rw [← e]; exact hr v9 w9 r)) _ trivial)
    · exact z_noT hq9 (by decide) rfl
    · exact z_noT hq9 (by decide) rfl
  obtain ⟨lo, ⟨v9, z, hr⟩ | ⟨_, _, _, z, _⟩⟩ := hq
  rotate_left
  · cases z
  cases z
  refine z_i2l K dX0_dispatch_7 ?_
  refine z_last K ((lo 1038 (by omega)).trans ho0) (by omega) vp0 dX0_dispatch_8 ?_
  refine z_goto (tgt := 15) K dX0_dispatch_9 rfl ?_
  refine j_iconst K dX0_dispatch_15 ?_
  exact z_iret K (by omega) (by omega) (wq_ok h6 lo hr updL0) dX0_dispatch_16
theorem lw_repair (kM : zMet yX1_repair (ws_ yX1_repair cX1_repair 3 (some .int)) d [.ref 1040, .int x1, .int x2] h (cQ h R (cdA 22 99 99)) mc ms) (hx : ∃ fs, h 1040 = some (.inr (1, fs))) (h6 : n6 h) (ho : ∃ f, h 1038 = some (.inl (4, 1, .inr (.inl f)))) : zMet yX0_repair (wsW_ yX0_repair cX0_repair 5 (some .int) [(0, 10, 13, 13)]) (d + 1) [.ref 1040, .int x1, .int x2, .ref 1038] h (wQ h R) mc ms := by
  obtain ⟨fs0, hx⟩ := hx
  obtain ⟨f0, ho0⟩ := id ho
  refine zMet.ofH (by decide) (Nat.le_of_ble_eq_true rfl) fun X K => ?_
  have hnd1 : ∀ h1 q, wQ h R (.inl (some (.int (iI 1)))) h1 → ∀ env, zsub env [] → zW X (wQ h R) h1 mc ms 13 env [.ref q] := by
    intro h1 q hw env he
    refine zW.cut he ?_
    refine z_astore K dX0_repair_13 rfl (by decide) rfl ?_
    refine j_iconst K dX0_repair_15 ?_
    exact z_iret K (by omega) (by omega) (hw) dX0_repair_16
  refine z_aload_n K dX0_repair_0 rfl rfl rfl ?_
  refine j_iconst K dX0_repair_1 ?_
  refine z_aload_n K dX0_repair_2 rfl rfl rfl ?_
  refine z_iload_n K dX0_repair_3 rfl rfl ?_
  refine z_iload_n K dX0_repair_4 rfl rfl ?_
  refine z_callV K kM cV_X0_82_X1 hx rfl rfl rfl (by omega) (by omega) (by omega) (Nat.le_of_ble_eq_true rfl) dX0_repair_5 (fun q h1 hq => ?_) (fun v h1 hq => ?_)
  · obtain ⟨lo, ⟨_, z, _⟩ | ⟨q9, ci, fs, z, hq9, hcd, hr⟩⟩ := hq
    · cases z
    cases z
    rcases cdA_c hcd with ⟨rfl, e⟩ | ⟨rfl, e⟩ | ⟨rfl, e⟩
    · refine z_catch1 K hq9 rfl (by omega) (by decide) q669 q686 ?_
      exact zW.widen (by omega) (by omega) (hnd1 h1 q (wq_ex ho (by omega) lo (fun v9 w9 r => by rw [← e]; exact hr v9 w9 r)) _ trivial)
    · exact z_noT hq9 (by decide) rfl
    · exact z_noT hq9 (by decide) rfl
  obtain ⟨lo, ⟨v9, z, hr⟩ | ⟨_, _, _, z, _⟩⟩ := hq
  rotate_left
  · cases z
  cases z
  refine z_i2l K dX0_repair_8 ?_
  refine z_last K ((lo 1038 (by omega)).trans ho0) (by omega) vp0 dX0_repair_9 ?_
  refine z_goto (tgt := 17) K dX0_repair_10 rfl ?_
  refine j_iconst K dX0_repair_17 ?_
  exact z_iret K (by omega) (by omega) (wq_ok h6 lo hr updL0) dX0_repair_18
theorem lw_best (kM : zMet yX1_best (ws_ yX1_best cX1_best 2 (some .int)) d [.ref 1040, .int x1] h (cQ h R (cdA 24 99 99)) mc ms) (hx : ∃ fs, h 1040 = some (.inr (1, fs))) (h6 : n6 h) (ho : ∃ f, h 1038 = some (.inl (4, 1, .inr (.inl f)))) : zMet yX0_best (wsW_ yX0_best cX0_best 4 (some .int) [(0, 9, 12, 21)]) (d + 1) [.ref 1040, .int x1, .ref 1038] h (wQ h R) mc ms := by
  obtain ⟨fs0, hx⟩ := hx
  obtain ⟨f0, ho0⟩ := id ho
  refine zMet.ofH (by decide) (Nat.le_of_ble_eq_true rfl) fun X K => ?_
  have hnd1 : ∀ h1 q, wQ h R (.inl (some (.int (iI 1)))) h1 → ∀ env, zsub env [] → zW X (wQ h R) h1 mc ms 12 env [.ref q] := by
    intro h1 q hw env he
    refine zW.cut he ?_
    refine z_astore_n K dX0_best_12 rfl rfl (by decide) rfl ?_
    refine j_iconst K dX0_best_13 ?_
    exact z_iret K (by omega) (by omega) (hw) dX0_best_14
  refine z_aload_n K dX0_best_0 rfl rfl rfl ?_
  refine j_iconst K dX0_best_1 ?_
  refine z_aload_n K dX0_best_2 rfl rfl rfl ?_
  refine z_iload_n K dX0_best_3 rfl rfl ?_
  refine z_callV K kM cV_X0_85_X1 hx rfl rfl rfl (by omega) (by omega) (by omega) (Nat.le_of_ble_eq_true rfl) dX0_best_4 (fun q h1 hq => ?_) (fun v h1 hq => ?_)
  · obtain ⟨lo, ⟨_, z, _⟩ | ⟨q9, ci, fs, z, hq9, hcd, hr⟩⟩ := hq
    · cases z
    cases z
    rcases cdA_c hcd with ⟨rfl, e⟩ | ⟨rfl, e⟩ | ⟨rfl, e⟩
    · refine z_catch1 K hq9 rfl (by omega) (by decide) q778 q819 ?_
      exact zW.widen (by omega) (by omega) (hnd1 h1 q (wq_ex ho (by omega) lo (fun v9 w9 r => by rw [← e]; exact hr v9 w9 r)) _ trivial)
    · exact z_noT hq9 (by decide) rfl
    · exact z_noT hq9 (by decide) rfl
  obtain ⟨lo, ⟨v9, z, hr⟩ | ⟨_, _, _, z, _⟩⟩ := hq
  rotate_left
  · cases z
  cases z
  refine z_i2l K dX0_best_7 ?_
  refine z_last K ((lo 1038 (by omega)).trans ho0) (by omega) vp0 dX0_best_8 ?_
  refine z_goto (tgt := 15) K dX0_best_9 rfl ?_
  refine j_iconst K dX0_best_15 ?_
  exact z_iret K (by omega) (by omega) (wq_ok h6 lo hr updL0) dX0_best_16
theorem lw_reoptimize (kM : zMet yX1_reoptimize (ws_ yX1_reoptimize cX1_reoptimize 4 (some .int)) d [.ref 1040, .int x1] h (cQ h R (cdA 24 99 99)) mc ms) (hx : ∃ fs, h 1040 = some (.inr (1, fs))) (h6 : n6 h) (ho : ∃ f, h 1038 = some (.inl (4, 1, .inr (.inl f)))) : zMet yX0_reoptimize (wsW_ yX0_reoptimize cX0_reoptimize 4 (some .int) [(0, 9, 12, 21)]) (d + 1) [.ref 1040, .int x1, .ref 1038] h (wQ h R) mc ms := by
  obtain ⟨fs0, hx⟩ := hx
  obtain ⟨f0, ho0⟩ := id ho
  refine zMet.ofH (by decide) (Nat.le_of_ble_eq_true rfl) fun X K => ?_
  have hnd1 : ∀ h1 q, wQ h R (.inl (some (.int (iI 1)))) h1 → ∀ env, zsub env [] → zW X (wQ h R) h1 mc ms 12 env [.ref q] := by
    intro h1 q hw env he
    refine zW.cut he ?_
    refine z_astore_n K dX0_reoptimize_12 rfl rfl (by decide) rfl ?_
    refine j_iconst K dX0_reoptimize_13 ?_
    exact z_iret K (by omega) (by omega) (hw) dX0_reoptimize_14
  refine z_aload_n K dX0_reoptimize_0 rfl rfl rfl ?_
  refine j_iconst K dX0_reoptimize_1 ?_
  refine z_aload_n K dX0_reoptimize_2 rfl rfl rfl ?_
  refine z_iload_n K dX0_reoptimize_3 rfl rfl ?_
  refine z_callV K kM cV_X0_88_X1 hx rfl rfl rfl (by omega) (by omega) (by omega) (Nat.le_of_ble_eq_true rfl) dX0_reoptimize_4 (fun q h1 hq => ?_) (fun v h1 hq => ?_)
  · obtain ⟨lo, ⟨_, z, _⟩ | ⟨q9, ci, fs, z, hq9, hcd, hr⟩⟩ := hq
    · cases z
    cases z
    rcases cdA_c hcd with ⟨rfl, e⟩ | ⟨rfl, e⟩ | ⟨rfl, e⟩
    · refine z_catch1 K hq9 rfl (by omega) (by decide) q778 q819 ?_
      exact zW.widen (by omega) (by omega) (hnd1 h1 q (wq_ex ho (by omega) lo (fun v9 w9 r => by rw [← e]; exact hr v9 w9 r)) _ trivial)
    · exact z_noT hq9 (by decide) rfl
    · exact z_noT hq9 (by decide) rfl
  obtain ⟨lo, ⟨v9, z, hr⟩ | ⟨_, _, _, z, _⟩⟩ := hq
  rotate_left
  · cases z
  cases z
  refine z_i2l K dX0_reoptimize_7 ?_
  refine z_last K ((lo 1038 (by omega)).trans ho0) (by omega) vp0 dX0_reoptimize_8 ?_
  refine z_goto (tgt := 15) K dX0_reoptimize_9 rfl ?_
  refine j_iconst K dX0_reoptimize_15 ?_
  exact z_iret K (by omega) (by omega) (wq_ok h6 lo hr updL0) dX0_reoptimize_16
theorem lw_bottleneck (kM : zMet yX1_bottleneck (ws_ yX1_bottleneck cX1_bottleneck 2 (some .int)) d [.ref 1040, .int x1] h (cQ h R (cdA 25 99 99)) mc ms) (hx : ∃ fs, h 1040 = some (.inr (1, fs))) (h6 : n6 h) (ho : ∃ f, h 1038 = some (.inl (4, 1, .inr (.inl f)))) : zMet yX0_bottleneck (wsW_ yX0_bottleneck cX0_bottleneck 4 (some .int) [(0, 9, 12, 49)]) (d + 1) [.ref 1040, .int x1, .ref 1038] h (wQ h R) mc ms := by
  obtain ⟨fs0, hx⟩ := hx
  obtain ⟨f0, ho0⟩ := id ho
  refine zMet.ofH (by decide) (Nat.le_of_ble_eq_true rfl) fun X K => ?_
  have hnd1 : ∀ h1 q, wQ h R (.inl (some (.int (iI 1)))) h1 → ∀ env, zsub env [] → zW X (wQ h R) h1 mc ms 12 env [.ref q] := by
    intro h1 q hw env he
    refine zW.cut he ?_
    refine z_astore_n K dX0_bottleneck_12 rfl rfl (by decide) rfl ?_
    refine j_iconst K dX0_bottleneck_13 ?_
    exact z_iret K (by omega) (by omega) (hw) dX0_bottleneck_14
  refine z_aload_n K dX0_bottleneck_0 rfl rfl rfl ?_
  refine j_iconst K dX0_bottleneck_1 ?_
  refine z_aload_n K dX0_bottleneck_2 rfl rfl rfl ?_
  refine z_iload_n K dX0_bottleneck_3 rfl rfl ?_
  refine z_callV K kM cV_X0_91_X1 hx rfl rfl rfl (by omega) (by omega) (by omega) (Nat.le_of_ble_eq_true rfl) dX0_bottleneck_4 (fun q h1 hq => ?_) (fun v h1 hq => ?_)
  · obtain ⟨lo, ⟨_, z, _⟩ | ⟨q9, ci, fs, z, hq9, hcd, hr⟩⟩ := hq
    · cases z
    cases z
    rcases cdA_c hcd with ⟨rfl, e⟩ | ⟨rfl, e⟩ | ⟨rfl, e⟩
    · refine z_catch1 K hq9 rfl (by omega) (by decide) q925 q939 ?_
      exact zW.widen (by omega) (by omega) (hnd1 h1 q (wq_ex ho (by omega) lo (fun v9 w9 r => by rw [← e]; exact hr v9 w9 r)) _ trivial)
    · exact z_noT hq9 (by decide) rfl
    · exact z_noT hq9 (by decide) rfl
  obtain ⟨lo, ⟨v9, z, hr⟩ | ⟨_, _, _, z, _⟩⟩ := hq
  rotate_left
  · cases z
  cases z
  refine z_i2l K dX0_bottleneck_7 ?_
  refine z_last K ((lo 1038 (by omega)).trans ho0) (by omega) vp0 dX0_bottleneck_8 ?_
  refine z_goto (tgt := 15) K dX0_bottleneck_9 rfl ?_
  refine j_iconst K dX0_bottleneck_15 ?_
  exact z_iret K (by omega) (by omega) (wq_ok h6 lo hr updL0) dX0_bottleneck_16
theorem lw_tabu (kM : zMet yX1_tabu (ws_ yX1_tabu cX1_tabu 4 (some .int)) d [.ref 1040, .int x1, .int x2] h (cQ h R (cdA 22 99 99)) mc ms) (hx : ∃ fs, h 1040 = some (.inr (1, fs))) (h6 : n6 h) (ho : ∃ f, h 1038 = some (.inl (4, 1, .inr (.inl f)))) : zMet yX0_tabu (wsW_ yX0_tabu cX0_tabu 5 (some .int) [(0, 10, 13, 13)]) (d + 1) [.ref 1040, .int x1, .int x2, .ref 1038] h (wQ h R) mc ms := by
  obtain ⟨fs0, hx⟩ := hx
  obtain ⟨f0, ho0⟩ := id ho
  refine zMet.ofH (by decide) (Nat.le_of_ble_eq_true rfl) fun X K => ?_
  have hnd1 : ∀ h1 q, wQ h R (.inl (some (.int (iI 1)))) h1 → ∀ env, zsub env [] → zW X (wQ h R) h1 mc ms 13 env [.ref q] := by
    intro h1 q hw env he
    refine zW.cut he ?_
    refine z_astore K dX0_tabu_13 rfl (by decide) rfl ?_
    refine j_iconst K dX0_tabu_15 ?_
    exact z_iret K (by omega) (by omega) (hw) dX0_tabu_16
  refine z_aload_n K dX0_tabu_0 rfl rfl rfl ?_
  refine j_iconst K dX0_tabu_1 ?_
  refine z_aload_n K dX0_tabu_2 rfl rfl rfl ?_
  refine z_iload_n K dX0_tabu_3 rfl rfl ?_
  refine z_iload_n K dX0_tabu_4 rfl rfl ?_
  refine z_callV K kM cV_X0_94_X1 hx rfl rfl rfl (by omega) (by omega) (by omega) (Nat.le_of_ble_eq_true rfl) dX0_tabu_5 (fun q h1 hq => ?_) (fun v h1 hq => ?_)
  · obtain ⟨lo, ⟨_, z, _⟩ | ⟨q9, ci, fs, z, hq9, hcd, hr⟩⟩ := hq
    · cases z
    cases z
    rcases cdA_c hcd with ⟨rfl, e⟩ | ⟨rfl, e⟩ | ⟨rfl, e⟩
    · refine z_catch1 K hq9 rfl (by omega) (by decide) q669 q686 ?_
      exact zW.widen (by omega) (by omega) (hnd1 h1 q (wq_ex ho (by omega) lo (fun v9 w9 r => by rw [← e]; exact hr v9 w9 r)) _ trivial)
    · exact z_noT hq9 (by decide) rfl
    · exact z_noT hq9 (by decide) rfl
  obtain ⟨lo, ⟨v9, z, hr⟩ | ⟨_, _, _, z, _⟩⟩ := hq
  rotate_left
  · cases z
  cases z
  refine z_i2l K dX0_tabu_8 ?_
  refine z_last K ((lo 1038 (by omega)).trans ho0) (by omega) vp0 dX0_tabu_9 ?_
  refine z_goto (tgt := 17) K dX0_tabu_10 rfl ?_
  refine j_iconst K dX0_tabu_17 ?_
  exact z_iret K (by omega) (by omega) (wq_ok h6 lo hr updL0) dX0_tabu_18
theorem lw_bound (kM : zMet yX1_bound (ws_ yX1_bound cX1_bound 2 (some .int)) d [.ref 1040, .int x1] h (cQ h R (cdA 24 99 99)) mc ms) (hx : ∃ fs, h 1040 = some (.inr (1, fs))) (h6 : n6 h) (ho : ∃ f, h 1038 = some (.inl (4, 1, .inr (.inl f)))) : zMet yX0_bound (wsW_ yX0_bound cX0_bound 4 (some .int) [(0, 9, 12, 21)]) (d + 1) [.ref 1040, .int x1, .ref 1038] h (wQ h R) mc ms := by
  obtain ⟨fs0, hx⟩ := hx
  obtain ⟨f0, ho0⟩ := id ho
  refine zMet.ofH (by decide) (Nat.le_of_ble_eq_true rfl) fun X K => ?_
  have hnd1 : ∀ h1 q, wQ h R (.inl (some (.int (iI 1)))) h1 → ∀ env, zsub env [] → zW X (wQ h R) h1 mc ms 12 env [.ref q] := by
    intro h1 q hw env he
    refine zW.cut he ?_
    refine z_astore_n K dX0_bound_12 rfl rfl (by decide) rfl ?_
    refine j_iconst K dX0_bound_13 ?_
    exact z_iret K (by omega) (by omega) (hw) dX0_bound_14
  refine z_aload_n K dX0_bound_0 rfl rfl rfl ?_
  refine j_iconst K dX0_bound_1 ?_
  refine z_aload_n K dX0_bound_2 rfl rfl rfl ?_
  refine z_iload_n K dX0_bound_3 rfl rfl ?_
  refine z_callV K kM cV_X0_97_X1 hx rfl rfl rfl (by omega) (by omega) (by omega) (Nat.le_of_ble_eq_true rfl) dX0_bound_4 (fun q h1 hq => ?_) (fun v h1 hq => ?_)
  · obtain ⟨lo, ⟨_, z, _⟩ | ⟨q9, ci, fs, z, hq9, hcd, hr⟩⟩ := hq
    · cases z
    cases z
    rcases cdA_c hcd with ⟨rfl, e⟩ | ⟨rfl, e⟩ | ⟨rfl, e⟩
    · refine z_catch1 K hq9 rfl (by omega) (by decide) q778 q819 ?_
      exact zW.widen (by omega) (by omega) (hnd1 h1 q (wq_ex ho (by omega) lo (fun v9 w9 r => by rw [← e]; exact hr v9 w9 r)) _ trivial)
    · exact z_noT hq9 (by decide) rfl
    · exact z_noT hq9 (by decide) rfl
  obtain ⟨lo, ⟨v9, z, hr⟩ | ⟨_, _, _, z, _⟩⟩ := hq
  rotate_left
  · cases z
  cases z
  refine z_i2l K dX0_bound_7 ?_
  refine z_last K ((lo 1038 (by omega)).trans ho0) (by omega) vp0 dX0_bound_8 ?_
  refine z_goto (tgt := 15) K dX0_bound_9 rfl ?_
  refine j_iconst K dX0_bound_15 ?_
  exact z_iret K (by omega) (by omega) (wq_ok h6 lo hr updL0) dX0_bound_16
theorem lw_append (kM : zMet yX1_append (ws_ yX1_append cX1_append 2 (none)) d [.ref 1040, .int x1] h (cQv h Rv (cdA 23 99 99)) mc ms) (hx : ∃ fs, h 1040 = some (.inr (1, fs))) (h6 : n6 h) : zMet yX0_append (wsW_ yX0_append cX0_append 3 (some .int) [(0, 5, 8, 15)]) (d + 1) [.ref 1040, .int x1] h (wQv h Rv) mc ms := by
  obtain ⟨fs0, hx⟩ := hx
  refine zMet.ofH (by decide) (Nat.le_of_ble_eq_true rfl) fun X K => ?_
  have hnd1 : ∀ h1 q, wQv h Rv (.inl (some (.int (iI 1)))) h1 → ∀ env, zsub env [] → zW X (wQv h Rv) h1 mc ms 8 env [.ref q] := by
    intro h1 q hw env he
    refine zW.cut he ?_
    refine z_astore_n K dX0_append_8 rfl rfl (by decide) rfl ?_
    refine j_iconst K dX0_append_9 ?_
    exact z_iret K (by omega) (by omega) (hw) dX0_append_10
  refine z_aload_n K dX0_append_0 rfl rfl rfl ?_
  refine z_iload_n K dX0_append_1 rfl rfl ?_
  refine z_callV K kM cV_X0_100_X1 hx rfl rfl rfl (by omega) (by omega) (by omega) (Nat.le_of_ble_eq_true rfl) dX0_append_2 (fun q h1 hq => ?_) (fun v h1 hq => ?_)
  · obtain ⟨lo, ⟨z, _⟩ | ⟨q9, ci, fs, z, hq9, hcd, hr⟩⟩ := hq
    · cases z
    cases z
    rcases cdA_c hcd with ⟨rfl, e⟩ | ⟨rfl, e⟩ | ⟨rfl, e⟩
    · refine z_catch1 K hq9 rfl (by omega) (by decide) q670 q760 ?_
      exact zW.widen (by omega) (by omega) (hnd1 h1 q (⟨1, rfl, by omega, lo, fun w9 r => by rw [← e]; exact hr w9 r⟩) _ trivial)
    · exact z_noT hq9 (by decide) rfl
    · exact z_noT hq9 (by decide) rfl
  obtain ⟨lo, ⟨z, hr⟩ | ⟨_, _, _, z, _⟩⟩ := hq
  rotate_left
  · cases z
  cases z
  refine z_goto (tgt := 11) K dX0_append_5 rfl ?_
  refine j_iconst K dX0_append_11 ?_
  exact z_iret K (by omega) (by omega) (⟨0, rfl, by omega, lo, hr⟩) dX0_append_12
theorem lw_read (kM : zMet yX1_read (wsW_ yX1_read cX1_read 3 (some .int) [(19, 24, 25, 327), (19, 24, 39, 329)]) d [.ref 1040] h (cQ h R (cdA 22 23 99)) mc ms) (hx : ∃ fs, h 1040 = some (.inr (1, fs))) (h6 : n6 h) (ho : ∃ f, h 1038 = some (.inl (4, 1, .inr (.inl f)))) : zMet yX0_read (wsW_ yX0_read cX0_read 3 (some .int) [(0, 8, 11, 13), (0, 8, 14, 15)]) (d + 1) [.ref 1040, .ref 1038] h (wQ h R) mc ms := by
  obtain ⟨fs0, hx⟩ := hx
  obtain ⟨f0, ho0⟩ := id ho
  refine zMet.ofH (by decide) (Nat.le_of_ble_eq_true rfl) fun X K => ?_
  have hnd1 : ∀ h1 q, wQ h R (.inl (some (.int (iI 1)))) h1 → ∀ env, zsub env [] → zW X (wQ h R) h1 mc ms 11 env [.ref q] := by
    intro h1 q hw env he
    refine zW.cut he ?_
    refine z_astore_n K dX0_read_11 rfl rfl (by decide) rfl ?_
    refine j_iconst K dX0_read_12 ?_
    exact z_iret K (by omega) (by omega) (hw) dX0_read_13
  have hnd2 : ∀ h1 q, wQ h R (.inl (some (.int (iI 2)))) h1 → ∀ env, zsub env [] → zW X (wQ h R) h1 mc ms 14 env [.ref q] := by
    intro h1 q hw env he
    refine zW.cut he ?_
    refine z_astore_n K dX0_read_14 rfl rfl (by decide) rfl ?_
    refine j_iconst K dX0_read_15 ?_
    exact z_iret K (by omega) (by omega) (hw) dX0_read_16
  refine z_aload_n K dX0_read_0 rfl rfl rfl ?_
  refine j_iconst K dX0_read_1 ?_
  refine z_aload_n K dX0_read_2 rfl rfl rfl ?_
  refine z_cVW K kM cV_X0_104_X1 hx rfl rfl rfl (by omega) (by omega) (by omega) (Nat.le_of_ble_eq_true rfl) dX0_read_3 (fun q h1 hq => ?_) (fun v h1 hq => ?_)
  · obtain ⟨lo, ⟨_, z, _⟩ | ⟨q9, ci, fs, z, hq9, hcd, hr⟩⟩ := hq
    · cases z
    cases z
    rcases cdA_c hcd with ⟨rfl, e⟩ | ⟨rfl, e⟩ | ⟨rfl, e⟩
    · refine z_catch1 K hq9 rfl (by omega) (by decide) q669 q686 ?_
      exact zW.widen (by omega) (by omega) (hnd1 h1 q (wq_ex ho (by omega) lo (fun v9 w9 r => by rw [← e]; exact hr v9 w9 r)) _ trivial)
    · refine z_catch2 K hq9 rfl (by decide) q669 nc_SA (by omega) (by decide) q670 q760 ?_
      exact zW.widen (by omega) (by omega) (hnd2 h1 q (wq_ex ho (by omega) lo (fun v9 w9 r => by rw [← e]; exact hr v9 w9 r)) _ trivial)
    · exact z_noT hq9 (by decide) rfl
  obtain ⟨lo, ⟨v9, z, hr⟩ | ⟨_, _, _, z, _⟩⟩ := hq
  rotate_left
  · cases z
  cases z
  refine z_i2l K dX0_read_6 ?_
  refine z_last K ((lo 1038 (by omega)).trans ho0) (by omega) vp0 dX0_read_7 ?_
  refine z_goto (tgt := 17) K dX0_read_8 rfl ?_
  refine j_iconst K dX0_read_17 ?_
  exact z_iret K (by omega) (by omega) (wq_ok h6 lo hr updL0) dX0_read_18
theorem lw_failure (kM : zMet yX1_failure (ws_ yX1_failure cX1_failure 4 (some .int)) d [.ref 1040, .int x1] h (cQ h R (cdA 22 99 99)) mc ms) (hx : ∃ fs, h 1040 = some (.inr (1, fs))) (h6 : n6 h) (ho : ∃ f, h 1038 = some (.inl (4, 1, .inr (.inl f)))) : zMet yX0_failure (wsW_ yX0_failure cX0_failure 4 (some .int) [(0, 9, 12, 13)]) (d + 1) [.ref 1040, .int x1, .ref 1038] h (wQ h R) mc ms := by
  obtain ⟨fs0, hx⟩ := hx
  obtain ⟨f0, ho0⟩ := id ho
  refine zMet.ofH (by decide) (Nat.le_of_ble_eq_true rfl) fun X K => ?_
  have hnd1 : ∀ h1 q, wQ h R (.inl (some (.int (iI 1)))) h1 → ∀ env, zsub env [] → zW X (wQ h R) h1 mc ms 12 env [.ref q] := by
    intro h1 q hw env he
    refine zW.cut he ?_
    refine z_astore_n K dX0_failure_12 rfl rfl (by decide) rfl ?_
    refine j_iconst K dX0_failure_13 ?_
    exact z_iret K (by omega) (by omega) (hw) dX0_failure_14
  refine z_aload_n K dX0_failure_0 rfl rfl rfl ?_
  refine j_iconst K dX0_failure_1 ?_
  refine z_aload_n K dX0_failure_2 rfl rfl rfl ?_
  refine z_iload_n K dX0_failure_3 rfl rfl ?_
  refine z_callV K kM cV_X0_108_X1 hx rfl rfl rfl (by omega) (by omega) (by omega) (Nat.le_of_ble_eq_true rfl) dX0_failure_4 (fun q h1 hq => ?_) (fun v h1 hq => ?_)
  · obtain ⟨lo, ⟨_, z, _⟩ | ⟨q9, ci, fs, z, hq9, hcd, hr⟩⟩ := hq
    · cases z
    cases z
    rcases cdA_c hcd with ⟨rfl, e⟩ | ⟨rfl, e⟩ | ⟨rfl, e⟩
    · refine z_catch1 K hq9 rfl (by omega) (by decide) q669 q686 ?_
      exact zW.widen (by omega) (by omega) (hnd1 h1 q (wq_ex ho (by omega) lo (fun v9 w9 r => by rw [← e]; exact hr v9 w9 r)) _ trivial)
    · exact z_noT hq9 (by decide) rfl
    · exact z_noT hq9 (by decide) rfl
  obtain ⟨lo, ⟨v9, z, hr⟩ | ⟨_, _, _, z, _⟩⟩ := hq
  rotate_left
  · cases z
  cases z
  refine z_i2l K dX0_failure_7 ?_
  refine z_last K ((lo 1038 (by omega)).trans ho0) (by omega) vp0 dX0_failure_8 ?_
  refine z_goto (tgt := 15) K dX0_failure_9 rfl ?_
  refine j_iconst K dX0_failure_15 ?_
  exact z_iret K (by omega) (by omega) (wq_ok h6 lo hr updL0) dX0_failure_16
theorem lw_restore (kM : zMet yX1_restore (ws_ yX1_restore cX1_restore 1 (none)) d [.ref 1040] h (cQv h Rv (cdA 23 99 99)) mc ms) (hx : ∃ fs, h 1040 = some (.inr (1, fs))) (h6 : n6 h) : zMet yX0_restore (wsW_ yX0_restore cX0_restore 2 (some .int) [(0, 4, 7, 15)]) (d + 1) [.ref 1040] h (wQv h Rv) mc ms := by
  obtain ⟨fs0, hx⟩ := hx
  refine zMet.ofH (by decide) (Nat.le_of_ble_eq_true rfl) fun X K => ?_
  have hnd1 : ∀ h1 q, wQv h Rv (.inl (some (.int (iI 1)))) h1 → ∀ env, zsub env [] → zW X (wQv h Rv) h1 mc ms 7 env [.ref q] := by
    intro h1 q hw env he
    refine zW.cut he ?_
    refine z_astore_n K dX0_restore_7 rfl rfl (by decide) rfl ?_
    refine j_iconst K dX0_restore_8 ?_
    exact z_iret K (by omega) (by omega) (hw) dX0_restore_9
  refine z_aload_n K dX0_restore_0 rfl rfl rfl ?_
  refine z_callV K kM cV_X0_111_X1 hx rfl rfl rfl (by omega) (by omega) (by omega) (Nat.le_of_ble_eq_true rfl) dX0_restore_1 (fun q h1 hq => ?_) (fun v h1 hq => ?_)
  · obtain ⟨lo, ⟨z, _⟩ | ⟨q9, ci, fs, z, hq9, hcd, hr⟩⟩ := hq
    · cases z
    cases z
    rcases cdA_c hcd with ⟨rfl, e⟩ | ⟨rfl, e⟩ | ⟨rfl, e⟩
    · refine z_catch1 K hq9 rfl (by omega) (by decide) q670 q760 ?_
      exact zW.widen (by omega) (by omega) (hnd1 h1 q (⟨1, rfl, by omega, lo, fun w9 r => by rw [← e]; exact hr w9 r⟩) _ trivial)
    · exact z_noT hq9 (by decide) rfl
    · exact z_noT hq9 (by decide) rfl
  obtain ⟨lo, ⟨z, hr⟩ | ⟨_, _, _, z, _⟩⟩ := hq
  rotate_left
  · cases z
  cases z
  refine z_goto (tgt := 10) K dX0_restore_4 rfl ?_
  refine j_iconst K dX0_restore_10 ?_
  exact z_iret K (by omega) (by omega) (⟨0, rfl, by omega, lo, hr⟩) dX0_restore_11
end LW2

