/-! ===== String out of a StringBuilder ===== -/
theorem jB_chkL {h : zH} {a b : Int} (h0 : 0 ≤ a) (h1 : a ≤ b) (h2 : b < 100000) : zMet yJ5_checkLength (ws_ yJ5_checkLength cJ5_checkLength 2 none) 1 [.int (iI a), .int (iI b)] h (zVd h) 0 0 := by
  refine zMet.of (by decide) (Nat.le_of_ble_eq_true rfl) fun X K => ?_
  refine z_iload_n K dJ5_checkLength_0 rfl rfl ?_
  refine z_iload_n K dJ5_checkLength_1 rfl rfl ?_
  refine j_icmp_ge (tgt := 37) K dJ5_checkLength_2 rfl (by omega) (by omega) (fun c_2 => ?_) (fun c_2 => ?_)
  · exact z_vret K (by omega) (by omega) (⟨rfl, rfl⟩) dJ5_checkLength_37
  · exact absurd c_2 (by omega)
theorem jB_rangeB {h : zH} {V N M nm : Nat} {f : Nat → Int} (hV : h V = some (aB N f)) (hM : M ≤ N) (hN : N < 1000) (hf : h nm = none) (h8 : 1000 ≤ nm) : zMet yJ5_copyOfRangeByte (ws_ yJ5_copyOfRangeByte cJ5_copyOfRangeByte 5 (some (.array .byte))) 2 [.ref V, .int (iI 0), .int (iI M)] h (zRet (.ref nm) (zup h nm (aB M f))) 1 M := by
  have hna : V ≠ nm := fun e => by rw [e, hf] at hV; cases hV
  have hcl : ∀ z : Int, 0 ≤ z → z ≤ 100000 → (iI z).toNatClampNeg = z.toNat := fun z z0 z1 => iI_clamp z0 (by omega)
  have k1 := jB_chkL (h := h) (a := 0) (b := M) (by omega) (by omega) (by omega)
  refine zMet.of (by decide) (Nat.le_of_ble_eq_true rfl) fun X K => ?_
  refine z_iload_n K dJ5_copyOfRangeByte_0 rfl rfl ?_
  refine z_iload_n K dJ5_copyOfRangeByte_1 rfl rfl ?_
  refine z_callS K (k1) cS_J5_343 rfl rfl (by omega) (by omega) (by omega) (Nat.le_of_ble_eq_true rfl) dJ5_copyOfRangeByte_2 zvX (zvK ?_)
  refine z_iload_n K dJ5_copyOfRangeByte_5 rfl rfl ?_
  refine z_iload_n K dJ5_copyOfRangeByte_6 rfl rfl ?_
  refine j_isub K dJ5_copyOfRangeByte_7 ?_
  rw [show (M : Int) - 0 = M by omega]
  refine z_istore_n K dJ5_copyOfRangeByte_8 rfl (by decide) rfl ?_
  refine z_iload_n K dJ5_copyOfRangeByte_9 rfl rfl ?_
  refine z_newb K (nm) (by omega) (by omega) hf (by omega) (by omega) (by omega) dJ5_copyOfRangeByte_10 ?_
  refine z_astore K dJ5_copyOfRangeByte_12 rfl (by decide) rfl ?_
  refine z_aload_n K dJ5_copyOfRangeByte_14 rfl rfl rfl ?_
  refine z_iload_n K dJ5_copyOfRangeByte_15 rfl rfl ?_
  refine z_aload K dJ5_copyOfRangeByte_16 rfl rfl ?_
  refine j_iconst K dJ5_copyOfRangeByte_18 ?_
  refine z_aload_n K dJ5_copyOfRangeByte_19 rfl rfl rfl ?_
  refine z_alen K (by first | exact hV | exact (zup_ne hna).trans hV) rfl dJ5_copyOfRangeByte_20 ?_
  refine z_iload_n K dJ5_copyOfRangeByte_21 rfl rfl ?_
  refine j_isub K dJ5_copyOfRangeByte_22 ?_
  refine z_iload_n K dJ5_copyOfRangeByte_23 rfl rfl ?_
  rw [show (N : Int) - 0 = N by omega]
  refine z_callS K ((s_minJ (by omega) (by omega)).r) cS_J5_304 rfl rfl (by omega) (by omega) (by omega) (Nat.le_of_ble_eq_true rfl) dJ5_copyOfRangeByte_24 zrX (zrK ?_)
  rw [show min (N : Int) M = M by omega]
  refine z_copyb (N0 := N) (N1 := (M : Int).toNat) K aB_fit ((zup_ne hna).trans hV) (zup_at _ _ _) h8 q241 (iI_n0 (by omega) (by omega)) (iI_n0 (by omega) (by omega)) (iI_n0 (by omega) (by omega)) ?_ ?_ (by omega) (Nat.le_of_ble_eq_true rfl) dJ5_copyOfRangeByte_27 ?_
  · rw [hcl 0 (by omega) (by omega), hcl _ (by omega) (by omega)]; omega
  · rw [hcl 0 (by omega) (by omega), hcl _ (by omega) (by omega)]; omega
  rw [hcl 0 (by omega) (by omega), hcl _ (by omega) (by omega), zup_zup, show ((M : Nat) : Int).toNat = M by omega, show (0 : Int).toNat = 0 from rfl, cpy_b (by omega) (by omega)]
  refine z_aload K dJ5_copyOfRangeByte_30 rfl rfl ?_
  exact z_aret K (by simp) rfl (by omega) (by omega) (⟨rfl, by rw [aB_ext (fun i hi => if_pos hi)]⟩) dJ5_copyOfRangeByte_32
theorem jB_range {h : zH} {V N M nm : Nat} {f : Nat → Int} (hV : h V = some (aB N f)) (hM : M ≤ N) (hN : N < 1000) (hf : h nm = none) (h8 : 1000 ≤ nm) : zMet yJ5_copyOfRange (ws_ yJ5_copyOfRange cJ5_copyOfRange 3 (some (.array .byte))) 3 [.ref V, .int (iI 0), .int (iI M)] h (zRet (.ref nm) (zup h nm (aB M f))) 1 M := by
  have k1 := jB_rangeB hV hM hN hf h8
  refine zMet.of (by decide) (Nat.le_of_ble_eq_true rfl) fun X K => ?_
  refine z_iload_n K dJ5_copyOfRange_0 rfl rfl ?_
  refine j_if_ne (tgt := 10) K dJ5_copyOfRange_1 rfl (by omega) (fun c_1 => ?_) (fun c_1 => ?_)
  · exact absurd rfl c_1
  · refine z_iload_n K dJ5_copyOfRange_4 rfl rfl ?_
    refine z_aload_n K dJ5_copyOfRange_5 rfl rfl rfl ?_
    refine z_alen K (hV) rfl dJ5_copyOfRange_6 ?_
    refine j_icmp_eq (tgt := 17) K dJ5_copyOfRange_7 rfl (by omega) (by omega) (fun c_7 => ?_) (fun c_7 => ?_)
    · have e : M = N := by omega
      subst e
      refine z_aload_n K dJ5_copyOfRange_17 rfl rfl rfl ?_
      refine z_cloneb K nm hV aB_fit q1371 q1372 q1374 q1375 hf h8 (by omega) (Nat.le_of_ble_eq_true rfl) (by omega) (by omega) dJ5_copyOfRange_18 ?_
      refine z_castA K (zup_at _ _ _) (by simp) q1377 dJ5_copyOfRange_21 ?_
      exact z_aret K (by simp) rfl (by omega) (by omega) (⟨rfl, rfl⟩) dJ5_copyOfRange_24
    · refine z_aload_n K dJ5_copyOfRange_10 rfl rfl rfl ?_
      refine z_iload_n K dJ5_copyOfRange_11 rfl rfl ?_
      refine z_iload_n K dJ5_copyOfRange_12 rfl rfl ?_
      refine z_callS K (k1) cS_J5_339 rfl rfl (by omega) (by omega) (by omega) (Nat.le_of_ble_eq_true rfl) dJ5_copyOfRange_13 zrX (zrK ?_)
      exact z_aret K (by simp) rfl (by omega) (by omega) (⟨rfl, rfl⟩) dJ5_copyOfRange_16
theorem sb_val {h : zH} {T V : Nat} {c n : Int} (hT : h T = some (oSB V c n)) : zMet yJ6_getValue (ws_ yJ6_getValue cJ6_getValue 1 (some (.array .byte))) 1 [.ref T] h (zRet (.ref V) h) 0 0 := by
  refine zMet.of (by decide) (Nat.le_of_ble_eq_true rfl) fun X K => ?_
  refine z_aload_n K dJ6_getValue_0 rfl rfl rfl ?_
  refine z_get K fd_J6_15_19 (hT) rfl dJ6_getValue_1 ?_
  exact z_aret K (by simp) rfl (by omega) (by omega) (⟨rfl, rfl⟩) dJ6_getValue_4
theorem jS_init2 {h : zH} {s T V N M a nn : Nat} {f t : Nat → Int} {c : Int} (hs : h s = some (.inr (20, [.null, .int 0, .int 0, .int 0]))) (s8 : 1000 ≤ s) (H : SBp h T V N c nn f t) (hnn : nn ≤ 80) (hM : (c = 0 ∧ M = nn) ∨ (c = 1 ∧ M = 2 * nn)) (hf : h a = none) (a8 : 1000 ≤ a) : zMet yJ8_init_2 (ws_ yJ8_init_2 cJ8_init_2 5 none) 4 [.ref s, .ref T, .null] h (zVd (zup (zup h a (aB M f)) s (oStr a c))) 1 M := by
  obtain ⟨hT, hV, ht, hev, hN, hTV, V8⟩ := H
  have has : s ≠ a := fun e => by rw [e, hf] at hs; cases hs
  have haV : V ≠ a := fun e => by rw [e, hf] at hV; cases hV
  have hsT : T ≠ s := fun e => by rw [e, hs] at hT; cases hT
  have hsV : V ≠ s := fun e => by rw [e, hs] at hV; cases hV
  have hle : (c = 0 ∧ nn ≤ N) ∨ (c = 1 ∧ 2 * nn ≤ N) := by rcases ht.2 with ⟨z, z1, -⟩ | ⟨z, z1, -⟩ <;> omega
  have k1 := sb_val hT
  have k2 := sb_length hT
  have k3 := sb_isL hT (by omega)
  refine zMet.of (by decide) (Nat.le_of_ble_eq_true rfl) fun X K => ?_
  rcases hM with ⟨rfl, rfl⟩ | ⟨rfl, rfl⟩
  · have k4 := jB_range (h := zup h s (.inr (20, [.null, .int (iI 0), .int 0, .int 0]))) (V := V) (N := N) (M := M) (nm := a) (f := f) ((zup_ne hsV).trans hV) (by omega) (by omega) ((zup_ne has.symm).trans hf) a8
    refine z_aload_n K dJ8_init_2_0 rfl rfl rfl ?_
    refine z_objInit K q1449 (by omega) (Nat.le_of_ble_eq_true rfl) dJ8_init_2_1 ?_
    refine z_aload_n K dJ8_init_2_4 rfl rfl rfl ?_
    refine z_callV K (k1) cV_J8_552_J7 (hT) rfl rfl rfl (by omega) (by omega) (by omega) (Nat.le_of_ble_eq_true rfl) dJ8_init_2_5 zrX (zrK ?_)
    refine z_astore_n K dJ8_init_2_8 rfl rfl (by decide) rfl ?_
    refine z_aload_n K dJ8_init_2_9 rfl rfl rfl ?_
    refine z_callVO K k2 q1347 q100 ⟨by decide, by decide⟩ (by decide +kernel) (by decide) q1455 q2272 q1349 q1350 q2277 q1345 hT rfl rfl rfl (by decide) (by omega) (by omega) (Nat.le_of_ble_eq_true rfl) dJ8_init_2_10 zrX (zrK ?_)
    refine z_istore K dJ8_init_2_13 (by decide) rfl ?_
    refine z_aload_n K dJ8_init_2_15 rfl rfl rfl ?_
    refine z_callV K (k3) cV_J8_1047_J7 (hT) rfl rfl rfl (by omega) (by omega) (by omega) (Nat.le_of_ble_eq_true rfl) dJ8_init_2_16 zrX (zrK ?_)
    refine j_if_eq (tgt := 41) K dJ8_init_2_19 rfl (by omega) (fun c_19 => ?_) (fun c_19 => ?_)
    · exact absurd c_19 (by decide)
    · refine z_aload_n K dJ8_init_2_22 rfl rfl rfl ?_
      refine j_iconst K dJ8_init_2_23 ?_
      refine z_putE K fd_J8_15_20 (by first | exact ⟨_, rfl, Or.inl rfl⟩ | exact ⟨_, rfl, Or.inr ⟨rfl, rfl, rfl⟩⟩) (by first | exact hs | exact (zup_ne has).trans (zup_at _ _ _)) (by omega) (Nat.le_of_ble_eq_true rfl) (zf_b (Or.inl rfl)) dJ8_init_2_24 (rfl) ?_
      refine z_aload_n K dJ8_init_2_27 rfl rfl rfl ?_
      refine z_aload_n K dJ8_init_2_28 rfl rfl rfl ?_
      refine j_iconst K dJ8_init_2_29 ?_
      refine z_iload K dJ8_init_2_30 rfl ?_
      refine z_callS K (k4) cS_J8_54 rfl rfl (by omega) (by omega) (by omega) (Nat.le_of_ble_eq_true rfl) dJ8_init_2_32 zrX (zrK ?_)
      refine z_putE K fd_J8_9_20 (by first | exact ⟨_, rfl, Or.inl rfl⟩ | exact ⟨_, rfl, Or.inr ⟨rfl, rfl, rfl⟩⟩) (by first | exact hs | exact (zup_ne has).trans (zup_at _ _ _)) (by omega) (Nat.le_of_ble_eq_true rfl) (zf_a) dJ8_init_2_35 (rfl) ?_
      refine z_goto (tgt := 97) K dJ8_init_2_38 rfl ?_
      exact z_vret K (by omega) (by omega) (⟨rfl, by rw [zup_comm has, zup_zup]; rfl⟩) dJ8_init_2_97
  · have k4 := jB_range (h := zup h s (.inr (20, [.null, .int (iI 1), .int 0, .int 0]))) (V := V) (N := N) (M := 2 * nn) (nm := a) (f := f) ((zup_ne hsV).trans hV) (by omega) (by omega) ((zup_ne has.symm).trans hf) a8
    refine z_aload_n K dJ8_init_2_0 rfl rfl rfl ?_
    refine z_objInit K q1449 (by omega) (Nat.le_of_ble_eq_true rfl) dJ8_init_2_1 ?_
    refine z_aload_n K dJ8_init_2_4 rfl rfl rfl ?_
    refine z_callV K (k1) cV_J8_552_J7 (by first | exact hT | exact (zup_ne hsT).trans hT) rfl rfl rfl (by omega) (by omega) (by omega) (Nat.le_of_ble_eq_true rfl) dJ8_init_2_5 zrX (zrK ?_)
    refine z_astore_n K dJ8_init_2_8 rfl rfl (by decide) rfl ?_
    refine z_aload_n K dJ8_init_2_9 rfl rfl rfl ?_
    refine z_callVO K k2 q1347 q100 ⟨by decide, by decide⟩ (by decide +kernel) (by decide) q1455 q2272 q1349 q1350 q2277 q1345 hT rfl rfl rfl (by decide) (by omega) (by omega) (Nat.le_of_ble_eq_true rfl) dJ8_init_2_10 zrX (zrK ?_)
    refine z_istore K dJ8_init_2_13 (by decide) rfl ?_
    refine z_aload_n K dJ8_init_2_15 rfl rfl rfl ?_
    refine z_callV K (k3) cV_J8_1047_J7 (by first | exact hT | exact (zup_ne hsT).trans hT) rfl rfl rfl (by omega) (by omega) (by omega) (Nat.le_of_ble_eq_true rfl) dJ8_init_2_16 zrX (zrK ?_)
    refine j_if_eq (tgt := 41) K dJ8_init_2_19 rfl (by omega) (fun c_19 => ?_) (fun c_19 => ?_)
    · refine j_getsI K 1 zst_6 (by decide +kernel) q1526 dJ8_init_2_41 ?_
      refine j_if_eq (tgt := 79) K dJ8_init_2_44 rfl (by omega) (fun c_44 => ?_) (fun c_44 => ?_)
      · exact absurd c_44 (by decide)
      · refine z_aload_n K dJ8_init_2_47 rfl rfl rfl ?_
        refine z_get K fd_J8_1048_19 (by first | exact hT | exact (zup_ne hsT).trans hT) rfl dJ8_init_2_48 ?_
        show zW _ _ _ _ _ _ _ (.int (iI 0) :: _)
        refine j_if_eq (tgt := 79) K dJ8_init_2_51 rfl (by omega) (fun c_51 => ?_) (fun c_51 => ?_)
        · refine z_aload_n K dJ8_init_2_79 rfl rfl rfl ?_
          refine j_iconst K dJ8_init_2_80 ?_
          refine z_putE K fd_J8_15_20 (by first | exact ⟨_, rfl, Or.inl rfl⟩ | exact ⟨_, rfl, Or.inr ⟨rfl, rfl, rfl⟩⟩) (by first | exact hs | exact (zup_ne has).trans (zup_at _ _ _)) (by omega) (Nat.le_of_ble_eq_true rfl) (zf_b (Or.inr rfl)) dJ8_init_2_81 (rfl) ?_
          refine z_aload_n K dJ8_init_2_84 rfl rfl rfl ?_
          refine z_aload_n K dJ8_init_2_85 rfl rfl rfl ?_
          refine j_iconst K dJ8_init_2_86 ?_
          refine z_iload K dJ8_init_2_87 rfl ?_
          refine j_iconst K dJ8_init_2_89 ?_
          refine z_ishl K dJ8_init_2_90 ?_
          rw [sl1 (by omega) (by omega)]
          refine z_callS K (k4) cS_J8_54 rfl rfl (by omega) (by omega) (by omega) (Nat.le_of_ble_eq_true rfl) dJ8_init_2_91 zrX (zrK ?_)
          refine z_putE K fd_J8_9_20 (by first | exact ⟨_, rfl, Or.inl rfl⟩ | exact ⟨_, rfl, Or.inr ⟨rfl, rfl, rfl⟩⟩) (by first | exact hs | exact (zup_ne has).trans (zup_at _ _ _)) (by omega) (Nat.le_of_ble_eq_true rfl) (zf_a) dJ8_init_2_94 (rfl) ?_
          exact z_vret K (by omega) (by omega) (⟨rfl, by rw [zup_comm has, zup_zup]; rfl⟩) dJ8_init_2_97
        · exact absurd rfl c_51
    · exact absurd rfl c_19
theorem jS_init {h : zH} {s T V N M a nn : Nat} {f t : Nat → Int} {c : Int} (hs : h s = some (.inr (20, [.null, .int 0, .int 0, .int 0]))) (s8 : 1000 ≤ s) (H : SBp h T V N c nn f t) (hnn : nn ≤ 80) (hM : (c = 0 ∧ M = nn) ∨ (c = 1 ∧ M = 2 * nn)) (hf : h a = none) (a8 : 1000 ≤ a) : zMet yJ8_init (ws_ yJ8_init cJ8_init 2 none) 5 [.ref s, .ref T] h (zVd (zup (zup h a (aB M f)) s (oStr a c))) 1 M := by
  have k1 := jS_init2 hs s8 H hnn hM hf a8
  refine zMet.of (by decide) (Nat.le_of_ble_eq_true rfl) fun X K => ?_
  refine z_aload_n K dJ8_init_0 rfl rfl rfl ?_
  refine z_aload_n K dJ8_init_1 rfl rfl rfl ?_
  refine z_null K dJ8_init_2 ?_
  refine z_cI (fs := []) K (k1) cI_J8_489 rfl rfl (by omega) (by omega) (by omega) (Nat.le_of_ble_eq_true rfl) dJ8_init_3 zvX (zvK ?_)
  exact z_vret K (by omega) (by omega) (⟨rfl, rfl⟩) dJ8_init_6
theorem sb_toString {h : zH} {s T V N M a nn : Nat} {f t : Nat → Int} {c : Int} (hs : h s = none) (s8 : 1000 ≤ s) (H : SBp h T V N c nn f t) (hnn : nn ≤ 80) (hM : (c = 0 ∧ M = nn) ∨ (c = 1 ∧ M = 2 * nn)) (hf : h a = none) (a8 : 1000 ≤ a) (has : s ≠ a) : zMet yJ7_toString (ws_ yJ7_toString cJ7_toString 1 (some (.object "java/lang/String"))) 6 [.ref T] h (zRet (.ref s) (zup (zup h a (aB M f)) s (oStr a c))) 2 (M + 4) := by
  obtain ⟨hT, hV, ht, hev, hN, hTV, V8⟩ := H
  have hsT : T ≠ s := fun e => by rw [e, hs] at hT; cases hT
  have hsV : V ≠ s := fun e => by rw [e, hs] at hV; cases hV
  have k1 := jS_init (h := zup h s (.inr (20, [.null, .int 0, .int 0, .int 0]))) (T := T) (V := V) (N := N) (f := f) (t := t) (c := c) (nn := nn) (M := M) (a := a) (zup_at _ _ _) s8 ⟨(zup_ne hsT).trans hT, (zup_ne hsV).trans hV, ht, hev, hN, hTV, V8⟩ hnn hM ((zup_ne has.symm).trans hf) a8
  rw [zup_comm has, zup_zup] at k1
  refine zMet.of (by decide) (Nat.le_of_ble_eq_true rfl) fun X K => ?_
  refine z_new K (s) nw_J7_18 hs (by omega) (by omega) (by omega) dJ7_toString_0 ?_
  refine z_dup K dJ7_toString_3 rfl ?_
  refine z_aload_n K dJ7_toString_4 rfl rfl rfl ?_
  refine z_cI (fs := []) K (k1) cI_J7_137 rfl rfl (by omega) (by omega) (by omega) (Nat.le_of_ble_eq_true rfl) dJ7_toString_5 zvX (zvK ?_)
  exact z_aret K (by simp) rfl (by omega) (by omega) (⟨rfl, rfl⟩) dJ7_toString_8

