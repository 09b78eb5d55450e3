/-! ===== ToldJob.<init>, Reader.<init> ===== -/
section XTo
variable {h : zH} {J a L r s : Nat}
abbrev oTo (a L : Nat) : zC := .inr (13, [.ref a, .ref L])
theorem x14_init (hA : Am h) (hJ : h J = some (.inr (13, [.null, .null]))) (ha : h a = none) (hL : h L = none) (haL : a ≠ L) (J8 : 1000 ≤ J) (a8 : 1000 ≤ a) (L8 : 1000 ≤ L) : zMet yX14_init (ws_ yX14_init cX14_init 1 none) 5 [.ref J] h (zVd (zup (zup (zup h a (aI 3 (fun _ => 0))) L (oL 0 1 0)) J (oTo a L))) 2 6 := by
  have haJ : J ≠ a := fun e => by rw [e, ha] at hJ; cases hJ
  have hLJ : J ≠ L := fun e => by rw [e, hL] at hJ; cases hJ
  obtain ⟨f1, h1⟩ := hA.1
  have k1 := jl_init (h := zup (zup (zup h a (aI 3 (fun _ => 0))) J (.inr (13, [.ref a, .null]))) L (.inr (18, [.int 0, .null, .int 0]))) (L := L) (zup_at _ _ _) ((zup_ne (by omega)).trans ((zup_ne (by omega)).trans ((zup_ne (by omega)).trans h1))) L8
  rw [zup_zup] at k1
  refine zMet.of (by decide) (Nat.le_of_ble_eq_true rfl) fun X K => ?_
  refine z_aload_n K dX14_init_0 rfl rfl rfl ?_
  refine z_objInit K q1599 (by omega) (Nat.le_of_ble_eq_true rfl) dX14_init_1 ?_
  refine z_aload_n K dX14_init_4 rfl rfl rfl ?_
  refine j_iconst K dX14_init_5 ?_
  refine z_newi K (a) (by omega) (by omega) ha (by omega) (by omega) (by omega) dX14_init_6 ?_
  rw [show ((3 : Int).toNat) = 3 from rfl, aI_zero]
  refine z_putE K fd_X14_7_13 (by first | exact ⟨_, rfl, Or.inl rfl⟩ | exact ⟨_, rfl, Or.inr ⟨rfl, rfl, rfl⟩⟩) (by first | exact (zup_ne haJ).trans hJ | exact (zup_ne hLJ).trans (zup_at _ _ _)) (by omega) (Nat.le_of_ble_eq_true rfl) (zf_a) dX14_init_8 (rfl) ?_
  refine z_aload_n K dX14_init_11 rfl rfl rfl ?_
  refine z_new K (L) nw_X14_13 ((zup_ne hLJ.symm).trans ((zup_ne haL.symm).trans hL)) (by omega) (by omega) (by omega) dX14_init_12 ?_
  refine z_dup K dX14_init_15 rfl ?_
  refine z_cI (fs := []) K (k1) cI_X14_15 rfl rfl (by omega) (by omega) (by omega) (Nat.le_of_ble_eq_true rfl) dX14_init_16 zvX (zvK ?_)
  refine z_putE K fd_X14_16_13 (by first | exact ⟨_, rfl, Or.inl rfl⟩ | exact ⟨_, rfl, Or.inr ⟨rfl, rfl, rfl⟩⟩) (by first | exact (zup_ne haJ).trans hJ | exact (zup_ne hLJ).trans (zup_at _ _ _)) (by omega) (Nat.le_of_ble_eq_true rfl) (zf_r) dX14_init_19 (rfl) ?_
  exact z_vret K (by omega) (by omega) (⟨rfl, by rw [zup_comm hLJ, zup_zup]; rfl⟩) dX14_init_22
theorem x13_init (hR : h r = some (.inr (12, [.null, .int 0]))) (r8 : 1000 ≤ r) : zMet yX13_init (ws_ yX13_init cX13_init 2 none) 1 [.ref r, .ref s] h (zVd (zup h r (oRd s 0))) 0 0 := by
  refine zMet.of (by decide) (Nat.le_of_ble_eq_true rfl) fun X K => ?_
  refine z_aload_n K dX13_init_0 rfl rfl rfl ?_
  refine z_objInit K q1576 (by omega) (Nat.le_of_ble_eq_true rfl) dX13_init_1 ?_
  refine z_aload_n K dX13_init_4 rfl rfl rfl ?_
  refine z_aload_n K dX13_init_5 rfl rfl rfl ?_
  refine z_putE K fd_X13_9_12 (by first | exact ⟨_, rfl, Or.inl rfl⟩ | exact ⟨_, rfl, Or.inr ⟨rfl, rfl, rfl⟩⟩) (hR) (by omega) (Nat.le_of_ble_eq_true rfl) (zf_r) dX13_init_6 (rfl) ?_
  exact z_vret K (by omega) (by omega) (⟨rfl, rfl⟩) dX13_init_9
end XTo

