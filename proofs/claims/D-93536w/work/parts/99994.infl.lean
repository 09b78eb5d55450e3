/-! ===== StringBuilder: one byte each becomes two ===== -/
theorem or_n (a b : Nat) : iI (a : Int) ||| iI (b : Int) = iI ((a ||| b : Nat) : Int) := by
  apply Int32.toBitVec_inj.mp
  rw [Int32.toBitVec_or, iI_bv, iI_bv, iI_bv]
  apply BitVec.eq_of_toNat_eq
  rw [BitVec.toNat_or, BitVec.toNat_ofNat, BitVec.toNat_ofNat, BitVec.toNat_ofNat, Nat.or_mod_two_pow]
theorem s_chkF {h : zH} {a b n : Nat} {v : Value} (hv : zisr v = true) (h1 : a + b ≤ n) (h2 : n < 65536) : zMet yJ18_checkFromIndexSize (ws_ yJ18_checkFromIndexSize cJ18_checkFromIndexSize 4 (some .int)) 1 [.int (iI a), .int (iI b), .int (iI n), v] h (zRet (.int (iI a)) h) 0 0 := by
  have l1 : n ||| a < 2 ^ 16 := Nat.or_lt_two_pow (by omega) (by omega)
  have l2 : n ||| a ||| b < 2 ^ 16 := Nat.or_lt_two_pow l1 (by omega)
  refine zMet.of (by decide) (by cases v <;> first | exact Nat.le_of_ble_eq_true rfl | cases hv) fun X K => ?_
  have hl : lv_args 0 [.int (iI a), .int (iI b), .int (iI n), v] = [(0, .int (iI a)), (1, .int (iI b)), (2, .int (iI n)), (3, v)] := rfl
  rw [hl]
  refine z_iload_n K dJ18_checkFromIndexSize_0 rfl rfl ?_
  refine z_iload_n K dJ18_checkFromIndexSize_1 rfl rfl ?_
  refine z_ior K dJ18_checkFromIndexSize_2 ?_
  rw [or_n]
  refine z_iload_n K dJ18_checkFromIndexSize_3 rfl rfl ?_
  refine z_ior K dJ18_checkFromIndexSize_4 ?_
  rw [or_n]
  refine j_if_lt (tgt := 15) K dJ18_checkFromIndexSize_5 rfl (by omega) (fun c_5 => ?_) (fun c_5 => ?_)
  · exact absurd c_5 (by omega)
  · refine z_iload_n K dJ18_checkFromIndexSize_8 rfl rfl ?_
    refine z_iload_n K dJ18_checkFromIndexSize_9 rfl rfl ?_
    refine z_iload_n K dJ18_checkFromIndexSize_10 rfl rfl ?_
    refine j_isub K dJ18_checkFromIndexSize_11 ?_
    refine j_icmp_le (tgt := 23) K dJ18_checkFromIndexSize_12 rfl (by omega) (by omega) (fun c_12 => ?_) (fun c_12 => ?_)
    · refine z_iload_n K dJ18_checkFromIndexSize_23 rfl rfl ?_
      exact z_iret K (by omega) (by omega) (⟨rfl, rfl⟩) dJ18_checkFromIndexSize_24
    · exact absurd c_12 (by omega)
theorem jS_chkF {h : zH} {a b n : Nat} (hA : Am h) (h1 : a + b ≤ n) (h2 : n < 65536) : zMet yJ8_checkBoundsOffCount (ws_ yJ8_checkBoundsOffCount cJ8_checkBoundsOffCount 3 (some .int)) 2 [.int (iI a), .int (iI b), .int (iI n)] h (zRet (.int (iI a)) h) 0 0 := by
  have hc := s_chkF (h := h) (v := thV h 5) thV_r h1 h2
  refine zMet.of (by decide) (Nat.le_of_ble_eq_true rfl) fun X K => ?_
  refine z_iload_n K dJ8_checkBoundsOffCount_0 rfl rfl ?_
  refine z_iload_n K dJ8_checkBoundsOffCount_1 rfl rfl ?_
  refine z_iload_n K dJ8_checkBoundsOffCount_2 rfl rfl ?_
  refine z_getU K zst_3 q1405 hA.u5 dJ8_checkBoundsOffCount_3 ?_
  refine z_callS K (hc) cS_J8_1065 rfl rfl (by omega) (by omega) (by omega) (Nat.le_of_ble_eq_true rfl) dJ8_checkBoundsOffCount_6 zrX (zrK ?_)
  exact z_iret K (by omega) (by omega) (⟨rfl, rfl⟩) dJ8_checkBoundsOffCount_9
theorem jU_chkF {h : zH} {V N a b : Nat} {f : Nat → Int} (hA : Am h) (hV : h V = some (aB N f)) (hN : N < 1000) (h1 : 2 * (a + b) ≤ N) : zMet yJ9_checkBoundsOffCount (ws_ yJ9_checkBoundsOffCount cJ9_checkBoundsOffCount 3 none) 3 [.int (iI a), .int (iI b), .ref V] h (zVd h) 0 0 := by
  have k1 := jU_len hV hN
  rw [show (N : Int) / 2 = ((N / 2 : Nat) : Int) by omega] at k1
  have k2 := jS_chkF (h := h) (a := a) (b := b) (n := N / 2) hA (by omega) (by omega)
  refine zMet.of (by decide) (Nat.le_of_ble_eq_true rfl) fun X K => ?_
  refine z_iload_n K dJ9_checkBoundsOffCount_0 rfl rfl ?_
  refine z_iload_n K dJ9_checkBoundsOffCount_1 rfl rfl ?_
  refine z_aload_n K dJ9_checkBoundsOffCount_2 rfl rfl rfl ?_
  refine z_callS K (k1) cS_J9_48 rfl rfl (by omega) (by omega) (by omega) (Nat.le_of_ble_eq_true rfl) dJ9_checkBoundsOffCount_3 zrX (zrK ?_)
  refine z_callS K (k2) cS_J9_419 rfl rfl (by omega) (by omega) (by omega) (Nat.le_of_ble_eq_true rfl) dJ9_checkBoundsOffCount_6 zrX (zrK ?_)
  refine z_pop K dJ9_checkBoundsOffCount_9 rfl ?_
  exact z_vret K (by omega) (by omega) (⟨rfl, rfl⟩) dJ9_checkBoundsOffCount_10
theorem jU_infl {h : zH} {V B N nn : Nat} {f g t : Nat → Int} (hA : Am h) (hV : h V = some (aB N f)) (hB : h B = some (aB (2 * N) g)) (B8 : 1000 ≤ B) (hVB : V ≠ B) (hn : nn ≤ N) (hN : N < 400) (ht : ∀ i, i < nn → 0 ≤ t i ∧ t i < 256 ∧ f i = t i) : zMet yJ9_inflate (ws_ yJ9_inflate cJ9_inflate 6 none) 4 [.ref V, .int (iI 0), .ref B, .int (iI 0), .int (iI nn)] h (fun o h' => o = .inl none ∧ ∃ g', h' = zup h B (aB (2 * N) g') ∧ ∀ i, i < nn → g' (2 * i) = t i ∧ g' (2 * i + 1) = t i / 256) 0 0 := by
  have k0 := jU_chkF (a := 0) (b := nn) hA hB (by omega) (by omega)
  refine zMet.of (by decide) (Nat.le_of_ble_eq_true rfl) fun X K => ?_
  have loop : ∀ (r i : Nat) (g' : Nat → Int), i + r = nn → (∀ j, j < i → g' (2 * j) = t j ∧ g' (2 * j + 1) = t j / 256) → ∀ env, zsub env [(0, .ref V), (1, .int (iI i)), (2, .ref B), (3, .int (iI i)), (4, .int (iI nn)), (5, .int (iI i))] → zW X (fun o h' => o = .inl none ∧ ∃ g', h' = zup h B (aB (2 * N) g') ∧ ∀ i, i < nn → g' (2 * i) = t i ∧ g' (2 * i + 1) = t i / 256) (zup h B (aB (2 * N) g')) 0 0 10 env [] := by
    intro r
    induction r with
    | zero =>
      intro i g' hi hg env he
      refine zW.cut he ?_
      refine z_iload K dJ9_inflate_10 rfl ?_
      refine z_iload K dJ9_inflate_12 rfl ?_
      refine j_icmp_ge (tgt := 41) K dJ9_inflate_14 rfl (by omega) (by omega) (fun c_14 => ?_) (fun c_14 => ?_)
      · exact z_vret K (by omega) (by omega) (⟨rfl, g', rfl, fun j hj => hg j (by omega)⟩) dJ9_inflate_41
      · exact absurd c_14 (by omega)
    | succ r ih =>
      intro i g' hi hg env he
      refine zW.cut he ?_
      have hti := ht i (by omega)
      have k1 := jU_put (h := zup h B (aB (2 * N) g')) (V := B) (N := 2 * N) (f := g') (i := i) (c := t i) (zup_at _ _ _) B8 (by omega) (by omega) (by omega) hti.1 (by omega)
      rw [zup_zup] at k1
      have nx := ih (i + 1) (sup (sup g' (2 * (i : Int)).toNat (t i)) (2 * (i : Int) + 1).toNat (t i / 256)) (by omega) (fun j hj => by
        rw [show (2 * (i : Int)).toNat = 2 * i by omega, show (2 * (i : Int) + 1).toNat = 2 * i + 1 by omega]
        by_cases e : j = i
        · subst e
          exact ⟨(sup_n (by omega)).trans (sup_s), sup_s⟩
        · have := hg j (by omega)
          exact ⟨(sup_n (by omega)).trans ((sup_n (by omega)).trans this.1), (sup_n (by omega)).trans ((sup_n (by omega)).trans this.2)⟩)
      rw [show (((i + 1 : Nat)) : Int) = (i : Int) + 1 by omega] at nx
      refine z_iload K dJ9_inflate_10 rfl ?_
      refine z_iload K dJ9_inflate_12 rfl ?_
      refine j_icmp_ge (tgt := 41) K dJ9_inflate_14 rfl (by omega) (by omega) (fun c_14 => ?_) (fun c_14 => ?_)
      · exact absurd c_14 (by omega)
      · refine z_aload_n K dJ9_inflate_17 rfl rfl rfl ?_
        refine z_iload_n K dJ9_inflate_18 rfl rfl ?_
        refine j_iinc K dJ9_inflate_19 rfl (by decide) rfl ?_
        refine z_aload_n K dJ9_inflate_22 rfl rfl rfl ?_
        refine z_iload_n K dJ9_inflate_23 rfl rfl ?_
        refine j_iinc K dJ9_inflate_24 rfl (by decide) rfl ?_
        refine j_bld K ((zup_ne hVB).trans hV) (by omega) (by omega) dJ9_inflate_27 ?_
        rw [show ((i : Nat) : Int).toNat = i by omega, hti.2.2]
        refine j_sipush K dJ9_inflate_28 (by decide +kernel) ?_
        refine z_iand K dJ9_inflate_31 ?_
        rw [b255, show t i % 256 = t i by omega]
        refine z_callS K (k1) cS_J9_111 rfl rfl (by omega) (by omega) (by omega) (Nat.le_of_ble_eq_true rfl) dJ9_inflate_32 zvX (zvK ?_)
        refine j_iinc K dJ9_inflate_35 rfl (by decide) rfl ?_
        refine z_goto (tgt := 10) K dJ9_inflate_38 rfl ?_
        exact nx _ ⟨rfl, rfl, rfl, rfl, rfl, rfl, trivial⟩
  have st := loop nn 0 g (by omega) (fun j hj => by omega)
  rw [zup_self hB] at st
  refine z_iload_n K dJ9_inflate_0 rfl rfl ?_
  refine z_iload K dJ9_inflate_1 rfl ?_
  refine z_aload_n K dJ9_inflate_3 rfl rfl rfl ?_
  refine z_callS K (k0) cS_J9_173 rfl rfl (by omega) (by omega) (by omega) (Nat.le_of_ble_eq_true rfl) dJ9_inflate_4 zvX (zvK ?_)
  refine j_iconst K dJ9_inflate_7 ?_
  refine z_istore K dJ9_inflate_8 (by decide) rfl ?_
  exact st _ ⟨rfl, rfl, rfl, rfl, rfl, rfl, trivial⟩
theorem jL_infl {h : zH} {V B N nn : Nat} {f g t : Nat → Int} (hA : Am h) (hV : h V = some (aB N f)) (hB : h B = some (aB (2 * N) g)) (B8 : 1000 ≤ B) (hVB : V ≠ B) (hn : nn ≤ N) (hN : N < 400) (ht : ∀ i, i < nn → 0 ≤ t i ∧ t i < 256 ∧ f i = t i) : zMet yJ22_inflate (ws_ yJ22_inflate cJ22_inflate 5 none) 5 [.ref V, .int (iI 0), .ref B, .int (iI 0), .int (iI nn)] h (fun o h' => o = .inl none ∧ ∃ g', h' = zup h B (aB (2 * N) g') ∧ ∀ i, i < nn → g' (2 * i) = t i ∧ g' (2 * i + 1) = t i / 256) 0 0 := by
  have k0 := jU_infl hA hV hB B8 hVB hn hN ht
  refine zMet.of (by decide) (Nat.le_of_ble_eq_true rfl) fun X K => ?_
  refine z_aload_n K dJ22_inflate_0 rfl rfl rfl ?_
  refine z_iload_n K dJ22_inflate_1 rfl rfl ?_
  refine z_aload_n K dJ22_inflate_2 rfl rfl rfl ?_
  refine z_iload_n K dJ22_inflate_3 rfl rfl ?_
  refine z_iload K dJ22_inflate_4 rfl ?_
  refine z_callS K (k0) cS_J22_240 rfl rfl (by omega) (by omega) (by omega) (Nat.le_of_ble_eq_true rfl) dJ22_inflate_6 (fun _ _ ⟨e, _⟩ => nomatch e) ?_
  rintro _ _ ⟨ez, g', rfl, hg⟩
  cases ez
  exact z_vret K (by omega) (by omega) (⟨rfl, g', rfl, hg⟩) dJ22_inflate_9
theorem jU_newL {h : zH} {N : Nat} (hN : N < 1000) : zMet yJ9_newBytesLength (ws_ yJ9_newBytesLength cJ9_newBytesLength 1 (some .int)) 1 [.int (iI N)] h (zRet (.int (iI (2 * N))) h) 0 0 := by
  refine zMet.of (by decide) (Nat.le_of_ble_eq_true rfl) fun X K => ?_
  refine z_iload_n K dJ9_newBytesLength_0 rfl rfl ?_
  refine j_if_ge (tgt := 12) K dJ9_newBytesLength_1 rfl (by omega) (fun c_1 => ?_) (fun c_1 => ?_)
  · refine z_iload_n K dJ9_newBytesLength_12 rfl rfl ?_
    refine j_ldc K 1073741823 q340 (by decide +kernel) dJ9_newBytesLength_13 ?_
    refine j_icmp_lt (tgt := 55) K dJ9_newBytesLength_15 rfl (by omega) (by omega) (fun c_15 => ?_) (fun c_15 => ?_)
    · refine z_iload_n K dJ9_newBytesLength_55 rfl rfl ?_
      refine j_iconst K dJ9_newBytesLength_56 ?_
      refine z_ishl K dJ9_newBytesLength_57 ?_
      rw [sl1 (by omega) (by omega)]
      exact z_iret K (by omega) (by omega) (⟨rfl, rfl⟩) dJ9_newBytesLength_58
    · exact absurd c_15 (by omega)
  · exact absurd c_1 (by omega)
theorem jU_newB {h : zH} {N nm : Nat} (hN : N < 1000) (hf : h nm = none) (h8 : 1000 ≤ nm) : zMet yJ9_newBytesFor (ws_ yJ9_newBytesFor cJ9_newBytesFor 1 (some (.array .byte))) 2 [.int (iI N)] h (zRet (.ref nm) (zup h nm (aB (2 * N) (fun _ => 0)))) 1 (2 * N) := by
  have k1 := jU_newL (h := h) hN
  refine zMet.of (by decide) (Nat.le_of_ble_eq_true rfl) fun X K => ?_
  refine z_iload_n K dJ9_newBytesFor_0 rfl rfl ?_
  refine z_callS K (k1) cS_J9_11 rfl rfl (by omega) (by omega) (by omega) (Nat.le_of_ble_eq_true rfl) dJ9_newBytesFor_1 zrX (zrK ?_)
  refine z_newb K (nm) (by omega) (by omega) hf (by omega) (by omega) (by omega) dJ9_newBytesFor_4 ?_
  exact z_aret K (by simp) rfl (by omega) (by omega) (⟨rfl, by rw [← aB_new, show (2 * (N : Int)).toNat = 2 * N by omega]⟩) dJ9_newBytesFor_6
theorem sb_infl {h : zH} {T V N a nn : Nat} {f t : Nat → Int} (hA : Am h) (hT : h T = some (oSB V 0 nn)) (hV : h V = some (aB N f)) (T8 : 1000 ≤ T) (hN : N < 400) (ht : tcs 0 N f t nn) (hf : h a = none) (a8 : 1000 ≤ a) :
    zMet yJ6_inflate (ws_ yJ6_inflate cJ6_inflate 2 none) 6 [.ref T] h (fun o h' => o = .inl none ∧ ∃ g, h' = zup (zup h a (aB (2 * N) g)) T (oSB a 1 nn) ∧ tcs 1 (2 * N) g t nn) 1 (2 * N) := by
  have haV : V ≠ a := fun e => by rw [e, hf] at hV; cases hV
  have haT : T ≠ a := fun e => by rw [e, hf] at hT; cases hT
  have hle : nn ≤ N ∧ ∀ i, i < nn → t i < 256 ∧ f i = t i := by
    rcases ht.2 with ⟨-, z1, z2⟩ | ⟨z, -⟩
    · exact ⟨z1, z2⟩
    · cases z
  have k0 := sb_isL hT (Or.inl rfl)
  have k1 := jU_newB (h := h) (N := N) (by omega) hf a8
  have k2 := jL_infl (h := zup h a (aB (2 * N) (fun _ => 0))) (V := V) (B := a) (N := N) (nn := nn) (t := t) (hA.up a8) ((zup_ne haV).trans hV) (zup_at _ _ _) a8 haV hle.1 hN (fun i hi => ⟨(ht.1 i hi).1, hle.2 i hi⟩)
  refine zMet.of (by decide) (Nat.le_of_ble_eq_true rfl) fun X K => ?_
  refine z_aload_n K dJ6_inflate_0 rfl rfl rfl ?_
  refine z_callV K (k0) cV_J6_83_J7 (by first | exact hT | exact (zup_ne haT).trans hT | exact zup_at _ _ _) rfl rfl rfl (by omega) (by omega) (by omega) (Nat.le_of_ble_eq_true rfl) dJ6_inflate_1 zrX (zrK ?_)
  refine j_if_ne (tgt := 8) K dJ6_inflate_4 rfl (by omega) (fun c_4 => ?_) (fun c_4 => ?_)
  · refine z_aload_n K dJ6_inflate_8 rfl rfl rfl ?_
    refine z_get K fd_J6_15_19 (by first | exact hT | exact (zup_ne haT).trans hT | exact zup_at _ _ _) rfl dJ6_inflate_9 ?_
    refine z_alen K (hV) rfl dJ6_inflate_12 ?_
    refine z_callS K (k1) cS_J6_26 rfl rfl (by omega) (by omega) (by omega) (Nat.le_of_ble_eq_true rfl) dJ6_inflate_13 zrX (zrK ?_)
    refine z_astore_n K dJ6_inflate_16 rfl rfl (by decide) rfl ?_
    refine z_aload_n K dJ6_inflate_17 rfl rfl rfl ?_
    refine z_get K fd_J6_15_19 (by first | exact hT | exact (zup_ne haT).trans hT | exact zup_at _ _ _) rfl dJ6_inflate_18 ?_
    refine j_iconst K dJ6_inflate_21 ?_
    refine z_aload_n K dJ6_inflate_22 rfl rfl rfl ?_
    refine j_iconst K dJ6_inflate_23 ?_
    refine z_aload_n K dJ6_inflate_24 rfl rfl rfl ?_
    refine z_get K fd_J6_79_19 (by first | exact hT | exact (zup_ne haT).trans hT | exact zup_at _ _ _) rfl dJ6_inflate_25 ?_
    refine z_callS K (k2) cS_J6_125 rfl rfl (by omega) (by omega) (by omega) (Nat.le_of_ble_eq_true rfl) dJ6_inflate_28 (fun _ _ ⟨e, _⟩ => nomatch e) ?_
    rintro _ _ ⟨ez, g', rfl, hg⟩
    cases ez
    rw [zup_zup]
    refine z_aload_n K dJ6_inflate_31 rfl rfl rfl ?_
    refine z_aload_n K dJ6_inflate_32 rfl rfl rfl ?_
    refine z_putE K fd_J6_15_19 ⟨_, rfl, Or.inl rfl⟩ (by first | exact hT | exact (zup_ne haT).trans hT | exact zup_at _ _ _) (by omega) (Nat.le_of_ble_eq_true rfl) (zf_a) dJ6_inflate_33 (rfl) ?_
    refine z_aload_n K dJ6_inflate_36 rfl rfl rfl ?_
    refine j_iconst K dJ6_inflate_37 ?_
    refine z_putE K fd_J6_22_19 ⟨_, rfl, Or.inl rfl⟩ (by first | exact hT | exact (zup_ne haT).trans hT | exact zup_at _ _ _) (by omega) (Nat.le_of_ble_eq_true rfl) (zf_b (by decide)) dJ6_inflate_38 (rfl) ?_
    exact z_vret K (by omega) (by omega) (⟨rfl, g', by rw [zup_zup]; rfl, ht.1, Or.inr ⟨rfl, by omega, hg⟩⟩) dJ6_inflate_41
  · exact absurd c_4 (by decide)

