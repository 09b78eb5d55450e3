/-! ===== the component: a shop is made: the walk ===== -/
theorem pu_pu {φ : Nat → Option zC} {i : Nat} {a c : zC} : pu (pu φ i a) i c = pu φ i c := by
  funext j
  unfold pu
  by_cases e : j = i
  · rw [if_pos e, if_pos e]
  · rw [if_neg e, if_neg e, if_neg e]
section XSn
variable {b : Nat} {g : zH}
theorem x2_init (hb : 1000 ≤ b) (hAm : Am g) (hf : ∀ i, i < 72 → g (b + i) = none) : zMet yX2_init (ws_ yX2_init cX2_init 2 none) 8 [.ref b] (zup g b (.inr (2, [.null, .null, .null, .null, .null, .null, .null, .null, .null, .int 0, .int 0, .int 0, .int 0]))) (zVd (sH b uNew g)) 29 317 := by
  obtain ⟨⟨f1, hA1⟩, ⟨c7, hA7⟩, -⟩ := hAm
  rw [cH_new hf]
  have a1 : ∀ φ, cH b φ g 1 = some (aR 0 0 f1) := fun φ => (cH_out (by omega)).trans hA1
  refine zMet.of (by decide) (Nat.le_of_ble_eq_true rfl) fun X K => ?_
  have hli : ∀ (φ : Nat → Option zC) (i : Nat), i < 72 → zMet yJ2_init (ws_ yJ2_init cJ2_init 1 none) 4 [.ref (b + i)] (cH b (pu φ i (.inr (18, [.int 0, .null, .int 0]))) g) (zVd (cH b (pu φ i (oL 0 1 0)) g)) 0 0 := fun φ i hi => by
    have h9 := jl_init (h := cH b (pu φ i (.inr (18, [.int 0, .null, .int 0]))) g) (L := b + i) (by rw [cH_at hi]; unfold pu; rw [if_pos rfl]) (a1 _) (by omega)
    rw [cH_up hi, pu_pu] at h9
    exact h9
  have loop : ∀ (r m : Nat), m + r = 4 → ∀ env, zsub env [(0, .ref b), (1, .int (iI m))] → zW X (zVd (sH b uNew g)) (cH b (iP b m) g) (9 + 5 * m) (101 + 54 * m) 95 env [] := by
    intro r
    induction r with
    | zero =>
      intro m hm env he
      obtain rfl : m = 4 := by omega
      refine zW.cut he ?_
      rw [cH_congr iP_4, ← sH_cH]
      refine z_iload_n K dX2_init_95 rfl rfl ?_
      refine j_iconst K dX2_init_96 ?_
      refine j_icmp_ge (tgt := 136) K dX2_init_97 rfl (by omega) (by omega) (fun c_97 => ?_) (fun c_97 => ?_)
      · exact z_vret K (by omega) (by omega) (⟨rfl, rfl⟩) dX2_init_136
      · exact absurd c_97 (by omega)
    | succ r ih =>
      intro m hm env he
      refine zW.cut he ?_
      have nx := ih (m + 1) (by omega)
      rw [← cH_congr (iN_s (b := b) (m := m) (by omega))] at nx
      clear ih
      have b0 : iP b m 0 = some (.inr (2, sF b uNew)) := rfl
      have b8 : iP b m 8 = some (oL m (if m = 0 then 1 else b + 9) m) := rfl
      have b9 : iP b m 9 = if m = 0 then none else some (aR 10 m fun q => b + 10 + q) := rfl
      have b18 : iP b m 18 = some (oL m (if m = 0 then 1 else b + 19) m) := by
        rcases (by omega : m = 0 ∨ m = 1 ∨ m = 2 ∨ m = 3) with rfl | rfl | rfl | rfl <;> rfl
      have b19 : iP b m 19 = if m = 0 then none else some (aR 10 m fun q => b + 20 + q) := by
        rcases (by omega : m = 0 ∨ m = 1 ∨ m = 2 ∨ m = 3) with rfl | rfl | rfl | rfl <;> rfl
      have b10 : iP b m (10 + m) = none := by
        rcases (by omega : m = 0 ∨ m = 1 ∨ m = 2 ∨ m = 3) with rfl | rfl | rfl | rfl <;> rfl
      have b20 : iP b m (20 + m) = none := by
        rcases (by omega : m = 0 ∨ m = 1 ∨ m = 2 ∨ m = 3) with rfl | rfl | rfl | rfl <;> rfl
      have b24 : iP b m (24 + m) = none := by
        rcases (by omega : m = 0 ∨ m = 1 ∨ m = 2 ∨ m = 3) with rfl | rfl | rfl | rfl <;> rfl
      have pn : ∀ (φ : Nat → Option zC) (i j : Nat) (c : zC), j ≠ i → pu φ i c j = φ j := fun φ i j c h => if_neg h
      have pa : ∀ (φ : Nat → Option zC) (i : Nat) (c : zC), pu φ i c i = some c := fun φ i c => if_pos rfl
      have hl := hli (iP b m) (10 + m) (by omega)
      rw [← Nat.add_assoc b 10 m] at hl
      -- after the new list
      generalize hφ1 : pu (iP b m) (10 + m) (oL 0 1 0) = φ1 at *
      have e1 : ∀ j, j ≠ 10 + m → φ1 j = iP b m j := fun j hj => by rw [← hφ1]; exact pn _ _ _ _ hj
      have e1a : φ1 (10 + m) = some (oL 0 1 0) := by rw [← hφ1]; exact pa _ _ _
      have had1 := stdAdd (H := cH b φ1 g) (L := b + 8) (a := b + 9) (B := b + 10) (k := m) (by rw [cH_at (by omega), e1 _ (by omega), b8]) (fun z => by rw [cH_at (by omega), e1 _ (by omega), b9, if_neg z]) (fun z => by rw [cH_at (by omega), e1 _ (by omega), b9, if_pos z]) (a1 _) (Or.inl ⟨_, _, _, by rw [Nat.add_assoc b 10, cH_at (by omega)]; exact e1a, rfl, q2290⟩) (by omega) (by omega) (by omega)
      rw [cH_up (by omega), cH_up (by omega)] at had1
      generalize hφ2 : pu (pu φ1 9 (aR 10 (m + 1) fun q => b + 10 + q)) 8 (oL ((m : Int) + 1) (b + 9) ((m : Int) + 1)) = φ2 at *
      have e2 : ∀ j, j ≠ 10 + m → j ≠ 9 → j ≠ 8 → φ2 j = iP b m j := fun j h1 h2 h3 => by rw [← hφ2, pn _ _ _ _ h3, pn _ _ _ _ h2]; exact e1 _ h1
      have hoi := x3_init (h := zup (cH b φ2 g) (b + (20 + m)) (.inr (3, [.null, .int 0]))) (o := b + (20 + m)) (r := b + (24 + m)) (zup_at _ _ _) (by rw [zup_ne (by omega), cH_at (by omega), e2 _ (by omega) (by omega) (by omega), b24]) (by omega) (by omega)
      rw [zup_comm (show b + (20 + m) ≠ b + (24 + m) by omega), zup_zup, cH_up (by omega), cH_up (by omega), cH_up (by omega)] at hoi
      rw [show b + (20 + m) = b + 20 + m by omega, show b + (24 + m) = b + 24 + m by omega] at hoi
      generalize hφ3 : pu (pu φ2 (24 + m) (aI 5 fun _ => 0)) (20 + m) (oO (b + 24 + m) 0) = φ3 at *
      have e3 : ∀ j, j ≠ 10 + m → j ≠ 9 → j ≠ 8 → j ≠ 24 + m → j ≠ 20 + m → φ3 j = iP b m j := fun j h1 h2 h3 h4 h5 => by rw [← hφ3, pn _ _ _ _ h5, pn _ _ _ _ h4]; exact e2 _ h1 h2 h3
      have had2 := stdAdd (H := cH b φ3 g) (L := b + 18) (a := b + 19) (B := b + 20) (k := m) (by rw [cH_at (by omega), e3 _ (by omega) (by omega) (by omega) (by omega) (by omega), b18]) (fun z => by rw [cH_at (by omega), e3 _ (by omega) (by omega) (by omega) (by omega) (by omega), b19, if_neg z]) (fun z => by rw [cH_at (by omega), e3 _ (by omega) (by omega) (by omega) (by omega) (by omega), b19, if_pos z]) (a1 _) (zOb_or (r := b + 24 + m) (n := 0) (by rw [Nat.add_assoc b 20, cH_at (by omega), ← hφ3]; exact pa _ _ _)) (by omega) (by omega) (by omega)
      rw [cH_up (by omega), cH_up (by omega)] at had2
      have hend : pu (pu φ3 19 (aR 10 (m + 1) fun q => b + 20 + q)) 18 (oL ((m : Int) + 1) (b + 19) ((m : Int) + 1)) = iN b m := by rw [← hφ3, ← hφ2, ← hφ1]; rfl
      rw [hend] at had2
      have z0 : cH b φ2 g b = some (.inr (2, sF b uNew)) := cH_at0.trans (e2 0 (by omega) (by omega) (by omega))
      have z8 : cH b φ1 g (b + 8) = some (oL m (if m = 0 then 1 else b + 9) m) := by rw [cH_at (by omega), e1 _ (by omega), b8]
      have z18 : cH b φ3 g (b + 18) = some (oL m (if m = 0 then 1 else b + 19) m) := by rw [cH_at (by omega), e3 _ (by omega) (by omega) (by omega) (by omega) (by omega), b18]
      have f10 : cH b (iP b m) g (b + 10 + m) = none := by rw [Nat.add_assoc b 10, cH_at (by omega), b10]
      have f20 : cH b φ2 g (b + 20 + m) = none := by rw [Nat.add_assoc b 20, cH_at (by omega), e2 _ (by omega) (by omega) (by omega), b20]
      refine z_iload_n K dX2_init_95 rfl rfl ?_
      refine j_iconst K dX2_init_96 ?_
      refine j_icmp_ge (tgt := 136) K dX2_init_97 rfl (by omega) (by omega) (fun c_97 => ?_) (fun c_97 => ?_)
      · exact absurd c_97 (by omega)
      · refine z_aload_n K dX2_init_100 rfl rfl rfl ?_
        refine z_get K fd_X2_25_2 ((by first | exact cH_at0 | exact z0)) rfl dX2_init_101 ?_
        refine z_new K (b + 10 + m) nw_X2_9 f10 (by omega) (by omega) (by omega) dX2_init_104 ?_
        rw [Nat.add_assoc b 10, cH_up (by omega), ← Nat.add_assoc b 10 m]
        refine z_dup K dX2_init_107 rfl ?_
        refine z_cI (fs := []) K (hl) cI_X2_11 rfl rfl (by omega) (by omega) (by omega) (Nat.le_of_ble_eq_true rfl) dX2_init_108 zvX (zvK ?_)
        refine z_callV K (had1) cV_X2_47_J2 (z8) rfl rfl rfl (by omega) (by omega) (by omega) (Nat.le_of_ble_eq_true rfl) dX2_init_111 zrX (zrK ?_)
        refine z_pop K dX2_init_114 rfl ?_
        refine z_aload_n K dX2_init_115 rfl rfl rfl ?_
        refine z_get K fd_X2_28_2 ((by first | exact cH_at0 | exact z0)) rfl dX2_init_116 ?_
        refine z_new K (b + 20 + m) nw_X2_51 f20 (by omega) (by omega) (by omega) dX2_init_119 ?_
        rw [Nat.add_assoc b 20 m, cH_up (by omega), ← Nat.add_assoc b 20 m]
        refine z_dup K dX2_init_122 rfl ?_
        refine z_cIN (fs := []) K (hoi) cI_X2_53 rfl rfl (by omega) (by omega) (by omega) (Nat.le_of_ble_eq_true rfl) dX2_init_123 zvX (zvK ?_)
        refine z_callV K (had2) cV_X2_47_J2 (z18) rfl rfl rfl (by omega) (by omega) (by omega) (Nat.le_of_ble_eq_true rfl) dX2_init_126 zrX (zrK ?_)
        refine z_pop K dX2_init_129 rfl ?_
        refine j_iinc K dX2_init_130 rfl (by decide) rfl ?_
        refine z_goto (tgt := 95) K dX2_init_133 rfl ?_
        exact zW.widen (by omega) (by omega) (nx _ ⟨rfl, rfl, trivial⟩)
  have go := loop 4 0 (by omega)
  rw [← cH_congr iF_0] at go
  have go : ∀ env, zsub env [(0, .ref b), (1, .int (iI 0))] → zW X (zVd (sH b uNew g)) (cH b (iF b) g) 9 101 95 env [] := go
  clear loop
  refine z_aload_n K dX2_init_0 rfl rfl rfl ?_
  refine z_objInit K q145 (by omega) (Nat.le_of_ble_eq_true rfl) dX2_init_1 ?_
  refine z_aload_n K dX2_init_4 rfl rfl rfl ?_
  refine z_new K (b + 1) nw_X2_9 ((cH_at (by omega)).trans rfl) (by omega) (by omega) (by omega) dX2_init_5 ?_
  rw [cH_up (by omega)]
  refine z_dup K dX2_init_8 rfl ?_
  refine z_cI (fs := []) K (hli _ 1 (by omega)) cI_X2_11 rfl rfl (by omega) (by omega) (by omega) (Nat.le_of_ble_eq_true rfl) dX2_init_9 zvX (zvK ?_)
  refine z_putE K fd_X2_12_2 (by first | exact ⟨_, rfl, Or.inl rfl⟩ | exact ⟨_, rfl, Or.inr ⟨rfl, rfl, rfl⟩⟩) (cH_at0) (by omega) (Nat.le_of_ble_eq_true rfl) (zf_r) dX2_init_12 (cH_up0) ?_
  refine z_aload_n K dX2_init_15 rfl rfl rfl ?_
  refine z_new K (b + 3) nw_X2_9 ((cH_at (by omega)).trans rfl) (by omega) (by omega) (by omega) dX2_init_16 ?_
  rw [cH_up (by omega)]
  refine z_dup K dX2_init_19 rfl ?_
  refine z_cI (fs := []) K (hli _ 3 (by omega)) cI_X2_11 rfl rfl (by omega) (by omega) (by omega) (Nat.le_of_ble_eq_true rfl) dX2_init_20 zvX (zvK ?_)
  refine z_putE K fd_X2_18_2 (by first | exact ⟨_, rfl, Or.inl rfl⟩ | exact ⟨_, rfl, Or.inr ⟨rfl, rfl, rfl⟩⟩) (cH_at0) (by omega) (Nat.le_of_ble_eq_true rfl) (zf_r) dX2_init_23 (cH_up0) ?_
  refine z_aload_n K dX2_init_26 rfl rfl rfl ?_
  refine j_bipush K dX2_init_27 (by decide +kernel) ?_
  refine z_newi K (b + 7) (by omega) (by omega) ((cH_at (by omega)).trans rfl) (by omega) (by omega) (by omega) dX2_init_29 ?_
  rw [show (9 : Int).toNat = 9 from rfl, aI_zero, cH_up (by omega)]
  refine z_putE K fd_X2_21_2 (by first | exact ⟨_, rfl, Or.inl rfl⟩ | exact ⟨_, rfl, Or.inr ⟨rfl, rfl, rfl⟩⟩) (cH_at0) (by omega) (Nat.le_of_ble_eq_true rfl) (zf_a) dX2_init_31 (cH_up0) ?_
  refine z_aload_n K dX2_init_34 rfl rfl rfl ?_
  refine z_new K (b + 8) nw_X2_9 ((cH_at (by omega)).trans rfl) (by omega) (by omega) (by omega) dX2_init_35 ?_
  rw [cH_up (by omega)]
  refine z_dup K dX2_init_38 rfl ?_
  refine z_cI (fs := []) K (hli _ 8 (by omega)) cI_X2_11 rfl rfl (by omega) (by omega) (by omega) (Nat.le_of_ble_eq_true rfl) dX2_init_39 zvX (zvK ?_)
  refine z_putE K fd_X2_25_2 (by first | exact ⟨_, rfl, Or.inl rfl⟩ | exact ⟨_, rfl, Or.inr ⟨rfl, rfl, rfl⟩⟩) (cH_at0) (by omega) (Nat.le_of_ble_eq_true rfl) (zf_r) dX2_init_42 (cH_up0) ?_
  refine z_aload_n K dX2_init_45 rfl rfl rfl ?_
  refine z_new K (b + 18) nw_X2_9 ((cH_at (by omega)).trans rfl) (by omega) (by omega) (by omega) dX2_init_46 ?_
  rw [cH_up (by omega)]
  refine z_dup K dX2_init_49 rfl ?_
  refine z_cI (fs := []) K (hli _ 18 (by omega)) cI_X2_11 rfl rfl (by omega) (by omega) (by omega) (Nat.le_of_ble_eq_true rfl) dX2_init_50 zvX (zvK ?_)
  refine z_putE K fd_X2_28_2 (by first | exact ⟨_, rfl, Or.inl rfl⟩ | exact ⟨_, rfl, Or.inr ⟨rfl, rfl, rfl⟩⟩) (cH_at0) (by omega) (Nat.le_of_ble_eq_true rfl) (zf_r) dX2_init_53 (cH_up0) ?_
  refine z_aload_n K dX2_init_56 rfl rfl rfl ?_
  refine j_bipush K dX2_init_57 (by decide +kernel) ?_
  refine z_newi K (b + 28) (by omega) (by omega) ((cH_at (by omega)).trans rfl) (by omega) (by omega) (by omega) dX2_init_59 ?_
  rw [show (20 : Int).toNat = 20 from rfl, aI_zero, cH_up (by omega)]
  refine z_putE K fd_X2_31_2 (by first | exact ⟨_, rfl, Or.inl rfl⟩ | exact ⟨_, rfl, Or.inr ⟨rfl, rfl, rfl⟩⟩) (cH_at0) (by omega) (Nat.le_of_ble_eq_true rfl) (zf_a) dX2_init_61 (cH_up0) ?_
  refine z_aload_n K dX2_init_64 rfl rfl rfl ?_
  refine j_bipush K dX2_init_65 (by decide +kernel) ?_
  refine z_newi K (b + 29) (by omega) (by omega) ((cH_at (by omega)).trans rfl) (by omega) (by omega) (by omega) dX2_init_67 ?_
  rw [show (20 : Int).toNat = 20 from rfl, aI_zero, cH_up (by omega)]
  refine z_putE K fd_X2_34_2 (by first | exact ⟨_, rfl, Or.inl rfl⟩ | exact ⟨_, rfl, Or.inr ⟨rfl, rfl, rfl⟩⟩) (cH_at0) (by omega) (Nat.le_of_ble_eq_true rfl) (zf_a) dX2_init_69 (cH_up0) ?_
  refine z_aload_n K dX2_init_72 rfl rfl rfl ?_
  refine j_bipush K dX2_init_73 (by decide +kernel) ?_
  refine z_newi K (b + 30) (by omega) (by omega) ((cH_at (by omega)).trans rfl) (by omega) (by omega) (by omega) dX2_init_75 ?_
  rw [show (20 : Int).toNat = 20 from rfl, aI_zero, cH_up (by omega)]
  refine z_putE K fd_X2_37_2 (by first | exact ⟨_, rfl, Or.inl rfl⟩ | exact ⟨_, rfl, Or.inr ⟨rfl, rfl, rfl⟩⟩) (cH_at0) (by omega) (Nat.le_of_ble_eq_true rfl) (zf_a) dX2_init_77 (cH_up0) ?_
  refine z_aload_n K dX2_init_80 rfl rfl rfl ?_
  refine j_bipush K dX2_init_81 (by decide +kernel) ?_
  refine z_newi K (b + 31) (by omega) (by omega) ((cH_at (by omega)).trans rfl) (by omega) (by omega) (by omega) dX2_init_83 ?_
  rw [show (20 : Int).toNat = 20 from rfl, aI_zero, cH_up (by omega)]
  refine z_putE K fd_X2_40_2 (by first | exact ⟨_, rfl, Or.inl rfl⟩ | exact ⟨_, rfl, Or.inr ⟨rfl, rfl, rfl⟩⟩) (cH_at0) (by omega) (Nat.le_of_ble_eq_true rfl) (zf_a) dX2_init_85 (cH_up0) ?_
  refine z_aload_n K dX2_init_88 rfl rfl rfl ?_
  refine j_iconst K dX2_init_89 ?_
  refine z_putE K fd_X2_43_2 (by first | exact ⟨_, rfl, Or.inl rfl⟩ | exact ⟨_, rfl, Or.inr ⟨rfl, rfl, rfl⟩⟩) (cH_at0) (by omega) (Nat.le_of_ble_eq_true rfl) (zf_i) dX2_init_90 (cH_up0) ?_
  refine j_iconst K dX2_init_93 ?_
  refine z_istore_n K dX2_init_94 rfl (by decide) rfl ?_
  refine zW.heap (cH_congr (ψ := iF b) (all72 rfl rfl rfl rfl rfl rfl rfl rfl rfl rfl rfl rfl rfl rfl rfl rfl rfl rfl rfl rfl rfl rfl rfl rfl rfl rfl rfl rfl rfl rfl rfl rfl rfl rfl rfl rfl rfl rfl rfl rfl rfl rfl rfl rfl rfl rfl rfl rfl rfl rfl rfl rfl rfl rfl rfl rfl rfl rfl rfl rfl rfl rfl rfl rfl rfl rfl rfl rfl rfl rfl rfl rfl)) ?_
  exact zW.widen (by omega) (by omega) (go _ ⟨rfl, rfl, trivial⟩)
end XSn

