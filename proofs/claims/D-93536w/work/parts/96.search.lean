/-! ===== the component: the search, its small parts ===== -/
/-- the fields of a search: the shop, the list of what was made, the best orders; x: tenure, least, steps, chosen machine, position, makespan -/
def seG (b L : Nat) (v : Value) (x : Nat → Int) : List Value := [.ref b, .int (iI (x 0)), .ref L, v, .int (iI (x 1)), .int (iI (x 2)), .int (iI (x 3)), .int (iI (x 4)), .int (iI (x 5))]
def seF (b L B : Nat) (x : Nat → Int) : List Value := seG b L (.ref B) x
/-- a swap is better than the chosen one -/
abbrev isB (x : Nat → Int) (v m p : Int) : Prop := v < x 5 ∨ (v = x 5 ∧ (m < x 3 ∨ (m = x 3 ∧ p < x 4)))
section XSe
variable {h : zH} {S b L B : Nat} {x : Nat → Int}
theorem x12_init {o : Nat} {a c d : Int} (ho : h o = some (.inr (11, [.int 0, .int 0, .int 0]))) (h8 : 1000 ≤ o) : zMet yX12_init (ws_ yX12_init cX12_init 4 none) 2 [.ref o, .int (iI a), .int (iI c), .int (iI d)] h (zVd (zup h o (.inr (11, [.int (iI a), .int (iI c), .int (iI d)])))) 0 0 := by
  refine zMet.of (by decide) (Nat.le_of_ble_eq_true rfl) fun X K => ?_
  refine z_aload_n K dX12_init_0 rfl rfl rfl ?_
  refine z_objInit K q1310 (by omega) (Nat.le_of_ble_eq_true rfl) dX12_init_1 ?_
  refine z_aload_n K dX12_init_4 rfl rfl rfl ?_
  refine z_iload_n K dX12_init_5 rfl rfl ?_
  refine z_putE K fd_X12_7_11 (by first | exact ⟨_, rfl, Or.inl rfl⟩ | exact ⟨_, rfl, Or.inr ⟨rfl, rfl, rfl⟩⟩) ((by first | exact ho | exact zup_at _ _ _)) (by omega) (Nat.le_of_ble_eq_true rfl) (zf_i) dX12_init_6 (rfl) ?_
  refine z_aload_n K dX12_init_9 rfl rfl rfl ?_
  refine z_iload_n K dX12_init_10 rfl rfl ?_
  refine z_putE K fd_X12_13_11 (by first | exact ⟨_, rfl, Or.inl rfl⟩ | exact ⟨_, rfl, Or.inr ⟨rfl, rfl, rfl⟩⟩) ((by first | exact ho | exact zup_at _ _ _)) (by omega) (Nat.le_of_ble_eq_true rfl) (zf_i) dX12_init_11 (rfl) ?_
  rw [zup_zup]
  refine z_aload_n K dX12_init_14 rfl rfl rfl ?_
  refine z_iload_n K dX12_init_15 rfl rfl ?_
  refine z_putE K fd_X12_16_11 (by first | exact ⟨_, rfl, Or.inl rfl⟩ | exact ⟨_, rfl, Or.inr ⟨rfl, rfl, rfl⟩⟩) ((by first | exact ho | exact zup_at _ _ _)) (by omega) (Nat.le_of_ble_eq_true rfl) (zf_i) dX12_init_16 (rfl) ?_
  rw [zup_zup]
  exact z_vret K (by omega) (by omega) (⟨rfl, rfl⟩) dX12_init_19
theorem x11_isBetter {v m p : Int} (hS : h S = some (.inr (10, seF b L B x))) (hv : -2147483648 ≤ v ∧ v ≤ 2147483647) (hm : -2147483648 ≤ m ∧ m ≤ 2147483647) (hp : -2147483648 ≤ p ∧ p ≤ 2147483647) (hx : ∀ i, i < 6 → -2147483648 ≤ x i ∧ x i ≤ 2147483647) : zMet yX11_isBetter (ws_ yX11_isBetter cX11_isBetter 4 (some .boolean)) 1 [.ref S, .int (iI v), .int (iI m), .int (iI p)] h (zRet (.int (iI (bI (isB x v m p)))) h) 0 0 := by
  have h3 := hx 3 (by omega)
  have h4 := hx 4 (by omega)
  have h5 := hx 5 (by omega)
  refine zMet.of (by decide) (Nat.le_of_ble_eq_true rfl) fun X K => ?_
  refine z_iload_n K dX11_isBetter_0 rfl rfl ?_
  refine z_aload_n K dX11_isBetter_1 rfl rfl rfl ?_
  refine z_get K fd_X11_105_10 (hS) rfl dX11_isBetter_2 ?_
  refine j_icmp_eq (tgt := 22) K dX11_isBetter_5 rfl (by omega) (by omega) (fun c_5 => ?_) (fun c_5 => ?_)
  · refine z_iload_n K dX11_isBetter_22 rfl rfl ?_
    refine z_aload_n K dX11_isBetter_23 rfl rfl rfl ?_
    refine z_get K fd_X11_95_10 (hS) rfl dX11_isBetter_24 ?_
    refine j_icmp_eq (tgt := 46) K dX11_isBetter_27 rfl (by omega) (by omega) (fun c_27 => ?_) (fun c_27 => ?_)
    · refine z_iload_n K dX11_isBetter_46 rfl rfl ?_
      refine z_aload_n K dX11_isBetter_47 rfl rfl rfl ?_
      refine z_get K fd_X11_102_10 (hS) rfl dX11_isBetter_48 ?_
      refine j_icmp_ge (tgt := 58) K dX11_isBetter_51 rfl (by omega) (by omega) (fun c_51 => ?_) (fun c_51 => ?_)
      · refine j_iconst K dX11_isBetter_58 ?_
        exact z_zret K (iI_b (by omega)) (by omega) (by omega) (⟨by first | rw [bI_t (show isB x v m p by omega)] | rw [bI_f (show ¬ isB x v m p by omega)], rfl⟩) dX11_isBetter_59
      · refine j_iconst K dX11_isBetter_54 ?_
        refine z_goto (tgt := 59) K dX11_isBetter_55 rfl ?_
        exact z_zret K (iI_b (by omega)) (by omega) (by omega) (⟨by first | rw [bI_t (show isB x v m p by omega)] | rw [bI_f (show ¬ isB x v m p by omega)], rfl⟩) dX11_isBetter_59
    · refine z_iload_n K dX11_isBetter_30 rfl rfl ?_
      refine z_aload_n K dX11_isBetter_31 rfl rfl rfl ?_
      refine z_get K fd_X11_95_10 (hS) rfl dX11_isBetter_32 ?_
      refine j_icmp_ge (tgt := 42) K dX11_isBetter_35 rfl (by omega) (by omega) (fun c_35 => ?_) (fun c_35 => ?_)
      · refine j_iconst K dX11_isBetter_42 ?_
        refine z_goto (tgt := 59) K dX11_isBetter_43 rfl ?_
        exact z_zret K (iI_b (by omega)) (by omega) (by omega) (⟨by first | rw [bI_t (show isB x v m p by omega)] | rw [bI_f (show ¬ isB x v m p by omega)], rfl⟩) dX11_isBetter_59
      · refine j_iconst K dX11_isBetter_38 ?_
        refine z_goto (tgt := 59) K dX11_isBetter_39 rfl ?_
        exact z_zret K (iI_b (by omega)) (by omega) (by omega) (⟨by first | rw [bI_t (show isB x v m p by omega)] | rw [bI_f (show ¬ isB x v m p by omega)], rfl⟩) dX11_isBetter_59
  · refine z_iload_n K dX11_isBetter_8 rfl rfl ?_
    refine z_aload_n K dX11_isBetter_9 rfl rfl rfl ?_
    refine z_get K fd_X11_105_10 (hS) rfl dX11_isBetter_10 ?_
    refine j_icmp_ge (tgt := 20) K dX11_isBetter_13 rfl (by omega) (by omega) (fun c_13 => ?_) (fun c_13 => ?_)
    · refine j_iconst K dX11_isBetter_20 ?_
      exact z_zret K (iI_b (by omega)) (by omega) (by omega) (⟨by first | rw [bI_t (show isB x v m p by omega)] | rw [bI_f (show ¬ isB x v m p by omega)], rfl⟩) dX11_isBetter_21
    · refine j_iconst K dX11_isBetter_16 ?_
      refine z_goto (tgt := 21) K dX11_isBetter_17 rfl ?_
      exact z_zret K (iI_b (by omega)) (by omega) (by omega) (⟨by first | rw [bI_t (show isB x v m p by omega)] | rw [bI_f (show ¬ isB x v m p by omega)], rfl⟩) dX11_isBetter_21
end XSe

