/-! ===== Integer; the chars of a text in bytes ===== -/
theorem vb_i : ∀ k : Nat, k < 256 → vb_c k = iI ((k : Int) - 128) := by decide +kernel
theorem Am.int {h : zH} (hA : Am h) {k : Nat} (hk : k < 256) : h (300 + k) = some (.inr (21, [.int (iI ((k : Int) - 128))])) := by
  rw [hA.2.2.2.2.2.2 k hk, vb_i k hk]
theorem jI_valueOf {h : zH} {v : Int} (hA : Am h) (h0 : -128 ≤ v) (h1 : v ≤ 127) : zMet yJ21_valueOf (ws_ yJ21_valueOf cJ21_valueOf 1 (some (.object "java/lang/Integer"))) 1 [.int (iI v)] h (zRet (.ref (300 + (v + 128).toNat)) h) 0 0 := by
  obtain ⟨c6, h6⟩ := hA.2.2.2.2.2.1
  have hc := hA.2.2.2.2.2.2 (v + 128).toNat (by omega)
  refine zMet.of (by decide) (Nat.le_of_ble_eq_true rfl) fun X K => ?_
  refine z_iload_n K dJ21_valueOf_0 rfl rfl ?_
  refine j_bipush K dJ21_valueOf_1 (by decide +kernel) ?_
  refine j_icmp_lt (tgt := 23) K dJ21_valueOf_3 rfl (by omega) (by omega) (fun c_3 => ?_) (fun c_3 => ?_)
  · exact absurd c_3 (by omega)
  · refine z_iload_n K dJ21_valueOf_6 rfl rfl ?_
    refine j_getsI K 127 zst_5 (by decide +kernel) q472 dJ21_valueOf_7 ?_
    refine j_icmp_gt (tgt := 23) K dJ21_valueOf_10 rfl (by omega) (by omega) (fun c_10 => ?_) (fun c_10 => ?_)
    · exact absurd c_10 (by omega)
    · refine z_gets K zst_4 q474 (h6) dJ21_valueOf_13 ?_
      refine z_iload_n K dJ21_valueOf_16 rfl rfl ?_
      refine j_sipush K dJ21_valueOf_17 (by decide +kernel) ?_
      refine j_iadd K dJ21_valueOf_20 ?_
      refine z_aaldI K h6 (by omega) (by omega) hc dJ21_valueOf_21 ?_
      exact z_aret K (by simp) rfl (by omega) (by omega) (⟨rfl, rfl⟩) dJ21_valueOf_22
theorem jI_intValue {h : zH} {q : Nat} {v : Int} (hq : h q = some (.inr (21, [.int (iI v)]))) : zMet yJ21_intValue (ws_ yJ21_intValue cJ21_intValue 1 (some .int)) 1 [.ref q] h (zRet (.int (iI v)) h) 0 0 := by
  refine zMet.of (by decide) (Nat.le_of_ble_eq_true rfl) fun X K => ?_
  refine z_aload_n K dJ21_intValue_0 rfl rfl rfl ?_
  refine z_get K fd_J21_205_21 (hq) rfl dJ21_intValue_1 ?_
  exact z_iret K (by omega) (by omega) (⟨rfl, rfl⟩) dJ21_intValue_4
theorem Am.u5 {h : zH} (hA : Am h) : (∃ c, h 5 = some c) ∨ ∃ c, h (5 + 20) = some c := hA.2.2.2.2.1
theorem jS_chk {h : zH} {i n : Int} (hA : Am h) (h0 : 0 ≤ i) (h1 : i < n) (h2 : n ≤ 2147483647) : zMet yJ8_checkIndex (ws_ yJ8_checkIndex cJ8_checkIndex 2 none) 2 [.int (iI i), .int (iI n)] h (zVd h) 0 0 := by
  have hc := s_chk (h := h) (v := thV h 5) (i := i) (n := n) thV_r h0 h1 h2
  refine zMet.of (by decide) (Nat.le_of_ble_eq_true rfl) fun X K => ?_
  refine z_iload_n K dJ8_checkIndex_0 rfl rfl ?_
  refine z_iload_n K dJ8_checkIndex_1 rfl rfl ?_
  refine z_getU K zst_3 q1405 hA.u5 dJ8_checkIndex_2 ?_
  refine z_callS K (hc) cS_J8_1059 rfl rfl (by omega) (by omega) (by omega) (Nat.le_of_ble_eq_true rfl) dJ8_checkIndex_5 zrX (zrK ?_)
  refine z_pop K dJ8_checkIndex_8 rfl ?_
  exact z_vret K (by omega) (by omega) (⟨rfl, rfl⟩) dJ8_checkIndex_9
theorem jU_len {h : zH} {V N : Nat} {f : Nat → Int} (hV : h V = some (aB N f)) (hN : N < 1000) : zMet yJ9_length (ws_ yJ9_length cJ9_length 1 (some .int)) 1 [.ref V] h (zRet (.int (iI ((N : Int) / 2))) h) 0 0 := by
  refine zMet.of (by decide) (Nat.le_of_ble_eq_true rfl) fun X K => ?_
  refine z_aload_n K dJ9_length_0 rfl rfl rfl ?_
  refine z_alen K (hV) rfl dJ9_length_1 ?_
  refine j_iconst K dJ9_length_2 ?_
  refine z_ishr K dJ9_length_3 ?_
  rw [sr1 (by omega) (by omega)]
  exact z_iret K (by omega) (by omega) (⟨rfl, rfl⟩) dJ9_length_4
theorem jU_chk {h : zH} {V N : Nat} {f : Nat → Int} {i : Int} (hA : Am h) (hV : h V = some (aB N f)) (hN : N < 1000) (h0 : 0 ≤ i) (h1 : 2 * i + 1 < N) : zMet yJ9_checkIndex (ws_ yJ9_checkIndex cJ9_checkIndex 2 none) 3 [.int (iI i), .ref V] h (zVd h) 0 0 := by
  have c1 := jU_len hV hN
  have c2 := jS_chk (h := h) (i := i) (n := (N : Int) / 2) hA h0 (by omega) (by omega)
  refine zMet.of (by decide) (Nat.le_of_ble_eq_true rfl) fun X K => ?_
  refine z_iload_n K dJ9_checkIndex_0 rfl rfl ?_
  refine z_aload_n K dJ9_checkIndex_1 rfl rfl rfl ?_
  refine z_callS K (c1) cS_J9_48 rfl rfl (by omega) (by omega) (by omega) (Nat.le_of_ble_eq_true rfl) dJ9_checkIndex_2 zrX (zrK ?_)
  refine z_callS K (c2) cS_J9_414 rfl rfl (by omega) (by omega) (by omega) (Nat.le_of_ble_eq_true rfl) dJ9_checkIndex_5 zvX (zvK ?_)
  exact z_vret K (by omega) (by omega) (⟨rfl, rfl⟩) dJ9_checkIndex_8
theorem jU_put {h : zH} {V N : Nat} {f : Nat → Int} {i c : Int} (hV : h V = some (aB N f)) (V8 : 1000 ≤ V) (hN : N < 1000) (h0 : 0 ≤ i) (h1 : 2 * i + 1 < N) (c0 : 0 ≤ c) (c1 : c < 65536) : zMet yJ9_putChar (ws_ yJ9_putChar cJ9_putChar 3 none) 1 [.ref V, .int (iI i), .int (iI c)] h (zVd (zup h V (aB N (sup (sup f (2 * i).toNat c) (2 * i + 1).toNat (c / 256))))) 0 0 := by
  have e1 : iI i <<< (iI 1 &&& 31) = iI (2 * i) := by
    have := sb1 i.toNat (by omega)
    rw [show ((i.toNat : Nat) : Int) = i by omega] at this
    exact this
  refine zMet.of (by decide) (Nat.le_of_ble_eq_true rfl) fun X K => ?_
  refine j_getsI K 1 zst_7 (by decide +kernel) q1413 dJ9_putChar_0 ?_
  refine j_if_ne (tgt := 28) K dJ9_putChar_3 rfl (by omega) (fun c_3 => ?_) (fun c_3 => ?_)
  · refine z_iload_n K dJ9_putChar_28 rfl rfl ?_
    refine j_iconst K dJ9_putChar_29 ?_
    refine z_ishl K dJ9_putChar_30 ?_
    rw [e1]
    refine z_istore_n K dJ9_putChar_31 rfl (by decide) rfl ?_
    refine z_aload_n K dJ9_putChar_32 rfl rfl rfl ?_
    refine z_iload_n K dJ9_putChar_33 rfl rfl ?_
    refine j_iinc K dJ9_putChar_34 rfl (by decide) rfl ?_
    refine z_iload_n K dJ9_putChar_37 rfl rfl ?_
    refine j_getsI K 0 zst_8 (by decide +kernel) q1415 dJ9_putChar_38 ?_
    refine z_ishr K dJ9_putChar_41 ?_
    rw [sr0 c0 (by omega)]
    refine z_i2b K dJ9_putChar_42 ?_
    rw [i2b_i]
    refine j_bstE K (by first | exact hV | exact zup_at _ _ _) V8 (by omega) (by omega) dJ9_putChar_43 (rfl) ?_
    refine z_aload_n K dJ9_putChar_44 rfl rfl rfl ?_
    refine z_iload_n K dJ9_putChar_45 rfl rfl ?_
    refine z_iload_n K dJ9_putChar_46 rfl rfl ?_
    refine j_getsI K 8 zst_9 (by decide +kernel) q1417 dJ9_putChar_47 ?_
    refine z_ishr K dJ9_putChar_50 ?_
    rw [sr8 c0 (by omega)]
    refine z_i2b K dJ9_putChar_51 ?_
    rw [i2b_i]
    refine j_bstE K (by first | exact hV | exact zup_at _ _ _) V8 (by omega) (by omega) dJ9_putChar_52 (rfl) ?_
    exact z_vret K (by omega) (by omega) (⟨rfl, by rw [zup_zup]⟩) dJ9_putChar_53
  · exact absurd c_3 (by decide)
theorem jU_get {h : zH} {V N : Nat} {f : Nat → Int} {i c : Int} (hV : h V = some (aB N f)) (hN : N < 1000) (h0 : 0 ≤ i) (h1 : 2 * i + 1 < N) (c0 : 0 ≤ c) (c1 : c < 65536) (e1 : f (2 * i).toNat = c) (e2 : f (2 * i + 1).toNat = c / 256) : zMet yJ9_getChar (ws_ yJ9_getChar cJ9_getChar 2 (some .char)) 1 [.ref V, .int (iI i)] h (zRet (.int (iI c)) h) 0 0 := by
  have e3 : iI i <<< (iI 1 &&& 31) = iI (2 * i) := by
    have := sb1 i.toNat (by omega)
    rw [show ((i.toNat : Nat) : Int) = i by omega] at this
    exact this
  have e4 : iI (c % 256) <<< (iI 0 &&& 31) = iI (c % 256) := by
    have := sb0 (c % 256).toNat (by omega)
    rw [show (((c % 256).toNat : Nat) : Int) = c % 256 by omega] at this
    exact this
  have e5 : iI (c / 256 % 256) <<< (iI 8 &&& 31) = iI (256 * (c / 256 % 256)) := by
    have := sb8 (c / 256 % 256).toNat (by omega)
    rw [show (((c / 256 % 256).toNat : Nat) : Int) = c / 256 % 256 by omega] at this
    exact this
  refine zMet.of (by decide) (Nat.le_of_ble_eq_true rfl) fun X K => ?_
  refine j_getsI K 1 zst_7 (by decide +kernel) q1413 dJ9_getChar_0 ?_
  refine j_if_ne (tgt := 28) K dJ9_getChar_3 rfl (by omega) (fun c_3 => ?_) (fun c_3 => ?_)
  · refine z_iload_n K dJ9_getChar_28 rfl rfl ?_
    refine j_iconst K dJ9_getChar_29 ?_
    refine z_ishl K dJ9_getChar_30 ?_
    rw [e3]
    refine z_istore_n K dJ9_getChar_31 rfl (by decide) rfl ?_
    refine z_aload_n K dJ9_getChar_32 rfl rfl rfl ?_
    refine z_iload_n K dJ9_getChar_33 rfl rfl ?_
    refine j_iinc K dJ9_getChar_34 rfl (by decide) rfl ?_
    refine j_bld K (hV) (by omega) (by omega) dJ9_getChar_37 ?_
    rw [e1]
    refine j_sipush K dJ9_getChar_38 (by decide +kernel) ?_
    refine z_iand K dJ9_getChar_41 ?_
    rw [b255]
    refine j_getsI K 0 zst_8 (by decide +kernel) q1415 dJ9_getChar_42 ?_
    refine z_ishl K dJ9_getChar_45 ?_
    rw [e4]
    refine z_aload_n K dJ9_getChar_46 rfl rfl rfl ?_
    refine z_iload_n K dJ9_getChar_47 rfl rfl ?_
    refine j_bld K (hV) (by omega) (by omega) dJ9_getChar_48 ?_
    rw [e2]
    refine j_sipush K dJ9_getChar_49 (by decide +kernel) ?_
    refine z_iand K dJ9_getChar_52 ?_
    rw [b255]
    refine j_getsI K 8 zst_9 (by decide +kernel) q1417 dJ9_getChar_53 ?_
    refine z_ishl K dJ9_getChar_56 ?_
    rw [e5]
    refine z_ior K dJ9_getChar_57 ?_
    rw [or8 (by omega) (by omega), show c % 256 + 256 * (c / 256 % 256) = c by omega]
    refine z_i2c K dJ9_getChar_58 ?_
    rw [i2c_i c0 c1]
    exact z_zret K (na_c c0 c1) (by omega) (by omega) (⟨rfl, rfl⟩) dJ9_getChar_59
  · exact absurd c_3 (by decide)
theorem jU_putS {h : zH} {V N : Nat} {f : Nat → Int} {i c : Int} (hA : Am h) (hV : h V = some (aB N f)) (V8 : 1000 ≤ V) (hN : N < 1000) (h0 : 0 ≤ i) (h1 : 2 * i + 1 < N) (c0 : 0 ≤ c) (c1 : c < 65536) : zMet yJ9_putCharSB (ws_ yJ9_putCharSB cJ9_putCharSB 3 none) 4 [.ref V, .int (iI i), .int (iI c)] h (zVd (zup h V (aB N (sup (sup f (2 * i).toNat c) (2 * i + 1).toNat (c / 256))))) 0 0 := by
  have k1 := jU_chk hA hV hN h0 h1
  have k2 := jU_put hV V8 hN h0 h1 c0 c1
  refine zMet.of (by decide) (Nat.le_of_ble_eq_true rfl) fun X K => ?_
  refine z_iload_n K dJ9_putCharSB_0 rfl rfl ?_
  refine z_aload_n K dJ9_putCharSB_1 rfl rfl rfl ?_
  refine z_callS K (k1) cS_J9_67 rfl rfl (by omega) (by omega) (by omega) (Nat.le_of_ble_eq_true rfl) dJ9_putCharSB_2 zvX (zvK ?_)
  refine z_aload_n K dJ9_putCharSB_5 rfl rfl rfl ?_
  refine z_iload_n K dJ9_putCharSB_6 rfl rfl ?_
  refine z_iload_n K dJ9_putCharSB_7 rfl rfl ?_
  refine z_callS K (k2) cS_J9_111 rfl rfl (by omega) (by omega) (by omega) (Nat.le_of_ble_eq_true rfl) dJ9_putCharSB_8 zvX (zvK ?_)
  exact z_vret K (by omega) (by omega) (⟨rfl, rfl⟩) dJ9_putCharSB_11
theorem jU_at {h : zH} {V N : Nat} {f : Nat → Int} {i c : Int} (hA : Am h) (hV : h V = some (aB N f)) (hN : N < 1000) (h0 : 0 ≤ i) (h1 : 2 * i + 1 < N) (c0 : 0 ≤ c) (c1 : c < 65536) (e1 : f (2 * i).toNat = c) (e2 : f (2 * i + 1).toNat = c / 256) : zMet yJ9_charAt (ws_ yJ9_charAt cJ9_charAt 2 (some .char)) 4 [.ref V, .int (iI i)] h (zRet (.int (iI c)) h) 0 0 := by
  have k1 := jU_chk hA hV hN h0 h1
  have k2 := jU_get hV hN h0 h1 c0 c1 e1 e2
  refine zMet.of (by decide) (Nat.le_of_ble_eq_true rfl) fun X K => ?_
  refine z_iload_n K dJ9_charAt_0 rfl rfl ?_
  refine z_aload_n K dJ9_charAt_1 rfl rfl rfl ?_
  refine z_callS K (k1) cS_J9_67 rfl rfl (by omega) (by omega) (by omega) (Nat.le_of_ble_eq_true rfl) dJ9_charAt_2 zvX (zvK ?_)
  refine z_aload_n K dJ9_charAt_5 rfl rfl rfl ?_
  refine z_iload_n K dJ9_charAt_6 rfl rfl ?_
  refine z_callS K (k2) cS_J9_71 rfl rfl (by omega) (by omega) (by omega) (Nat.le_of_ble_eq_true rfl) dJ9_charAt_7 zrX (zrK ?_)
  exact z_zret K (na_c c0 c1) (by omega) (by omega) (⟨rfl, rfl⟩) dJ9_charAt_10
theorem jL_at {h : zH} {V N : Nat} {f : Nat → Int} {i c : Int} (hA : Am h) (hV : h V = some (aB N f)) (hN : N < 1000) (h0 : 0 ≤ i) (h1 : i < N) (c0 : 0 ≤ c) (c1 : c < 256) (e1 : f i.toNat = c) : zMet yJ22_charAt (ws_ yJ22_charAt cJ22_charAt 2 (some .char)) 3 [.ref V, .int (iI i)] h (zRet (.int (iI c)) h) 0 0 := by
  have k1 := jS_chk (h := h) (i := i) (n := N) hA h0 h1 (by omega)
  refine zMet.of (by decide) (Nat.le_of_ble_eq_true rfl) fun X K => ?_
  refine z_iload_n K dJ22_charAt_0 rfl rfl ?_
  refine z_aload_n K dJ22_charAt_1 rfl rfl rfl ?_
  refine z_alen K (hV) rfl dJ22_charAt_2 ?_
  refine z_callS K (k1) cS_J22_9 rfl rfl (by omega) (by omega) (by omega) (Nat.le_of_ble_eq_true rfl) dJ22_charAt_3 zvX (zvK ?_)
  refine z_aload_n K dJ22_charAt_6 rfl rfl rfl ?_
  refine z_iload_n K dJ22_charAt_7 rfl rfl ?_
  refine j_bld K (hV) (by omega) (by omega) dJ22_charAt_8 ?_
  rw [e1]
  refine j_sipush K dJ22_charAt_9 (by decide +kernel) ?_
  refine z_iand K dJ22_charAt_12 ?_
  rw [b255, show c % 256 = c by omega]
  refine z_i2c K dJ22_charAt_13 ?_
  rw [i2c_i c0 (by omega)]
  exact z_zret K (na_c c0 (by omega)) (by omega) (by omega) (⟨rfl, rfl⟩) dJ22_charAt_14
/-- the n chars t lie in the bytes f, one or two each -/
def tcs (c : Int) (N : Nat) (f t : Nat → Int) (n : Nat) : Prop := (∀ i, i < n → 0 ≤ t i ∧ t i < 65536) ∧ ((c = 0 ∧ n ≤ N ∧ ∀ i, i < n → t i < 256 ∧ f i = t i) ∨ (c = 1 ∧ 2 * n ≤ N ∧ ∀ i, i < n → f (2 * i) = t i ∧ f (2 * i + 1) = t i / 256))
abbrev oStr (V : Nat) (c : Int) : zC := .inr (20, [.ref V, .int (iI c), .int 0, .int 0])
theorem jS_coder {h : zH} {s V : Nat} {c : Int} (hs : h s = some (oStr V c)) (hc : c = 0 ∨ c = 1) : zMet yJ8_coder (ws_ yJ8_coder cJ8_coder 1 (some .byte)) 1 [.ref s] h (zRet (.int (iI c)) h) 0 0 := by
  refine zMet.of (by decide) (Nat.le_of_ble_eq_true rfl) fun X K => ?_
  refine j_getsI K 1 zst_6 (by decide +kernel) q1526 dJ8_coder_0 ?_
  refine j_if_eq (tgt := 13) K dJ8_coder_3 rfl (by omega) (fun c_3 => ?_) (fun c_3 => ?_)
  · exact absurd c_3 (by decide)
  · refine z_aload_n K dJ8_coder_6 rfl rfl rfl ?_
    refine z_get K fd_J8_15_20 (hs) rfl dJ8_coder_7 ?_
    refine z_goto (tgt := 14) K dJ8_coder_10 rfl ?_
    exact z_zret K (na_b hc) (by omega) (by omega) (⟨rfl, rfl⟩) dJ8_coder_14
theorem jS_isL {h : zH} {s V : Nat} {c : Int} (hs : h s = some (oStr V c)) (hc : c = 0 ∨ c = 1) : zMet yJ8_isLatin1 (ws_ yJ8_isLatin1 cJ8_isLatin1 1 (some .boolean)) 1 [.ref s] h (zRet (.int (iI (1 - c))) h) 0 0 := by
  refine zMet.of (by decide) (Nat.le_of_ble_eq_true rfl) fun X K => ?_
  refine j_getsI K 1 zst_6 (by decide +kernel) q1526 dJ8_isLatin1_0 ?_
  refine j_if_eq (tgt := 17) K dJ8_isLatin1_3 rfl (by omega) (fun c_3 => ?_) (fun c_3 => ?_)
  · exact absurd c_3 (by decide)
  · refine z_aload_n K dJ8_isLatin1_6 rfl rfl rfl ?_
    refine z_get K fd_J8_15_20 (hs) rfl dJ8_isLatin1_7 ?_
    refine j_if_ne (tgt := 17) K dJ8_isLatin1_10 rfl (by omega) (fun c_10 => ?_) (fun c_10 => ?_)
    · have e : 1 - c = 0 := by omega
      refine j_iconst K dJ8_isLatin1_17 ?_
      exact z_zret K (iI_b (by omega)) (by omega) (by omega) (⟨by rw [e], rfl⟩) dJ8_isLatin1_18
    · have e : 1 - c = 1 := by omega
      refine j_iconst K dJ8_isLatin1_13 ?_
      refine z_goto (tgt := 18) K dJ8_isLatin1_14 rfl ?_
      exact z_zret K (iI_b (by omega)) (by omega) (by omega) (⟨by rw [e], rfl⟩) dJ8_isLatin1_18
theorem jS_length {h : zH} {s V N n : Nat} {c : Int} {f t : Nat → Int} (hs : h s = some (oStr V c)) (hV : h V = some (aB N f)) (hN : N < 1000) (hc : (c = 0 ∧ N = n) ∨ (c = 1 ∧ N = 2 * n)) : zMet yJ8_length (ws_ yJ8_length cJ8_length 1 (some .int)) 2 [.ref s] h (zRet (.int (iI n)) h) 0 0 := by
  have k1 := jS_coder hs (by omega)
  have e : iI (N : Int) >>> (iI c &&& 31) = iI n := by
    rcases hc with ⟨rfl, rfl⟩ | ⟨rfl, rfl⟩
    · rw [sr0 (by omega) (by omega)]
    · rw [sr1 (by omega) (by omega), show ((2 * n : Nat) : Int) / 2 = n by omega]
  refine zMet.of (by decide) (Nat.le_of_ble_eq_true rfl) fun X K => ?_
  refine z_aload_n K dJ8_length_0 rfl rfl rfl ?_
  refine z_get K fd_J8_9_20 (hs) rfl dJ8_length_1 ?_
  refine z_alen K (hV) rfl dJ8_length_4 ?_
  refine z_aload_n K dJ8_length_5 rfl rfl rfl ?_
  refine z_callV K (k1) cV_J8_335_J8 (hs) rfl rfl rfl (by omega) (by omega) (by omega) (Nat.le_of_ble_eq_true rfl) dJ8_length_6 zrX (zrK ?_)
  refine z_ishr K dJ8_length_9 ?_
  rw [e]
  exact z_iret K (by omega) (by omega) (⟨rfl, rfl⟩) dJ8_length_10
theorem jS_charAt {h : zH} {s V N n : Nat} {c i : Int} {f t : Nat → Int} (hA : Am h) (hs : h s = some (oStr V c)) (hV : h V = some (aB N f)) (hN : N < 1000) (ht : tcs c N f t n) (h0 : 0 ≤ i) (h1 : i < n) : zMet yJ8_charAt (ws_ yJ8_charAt cJ8_charAt 2 (some .char)) 5 [.ref s, .int (iI i)] h (zRet (.int (iI (t i.toNat))) h) 0 0 := by
  obtain ⟨hr, ht⟩ := ht
  have hr := hr i.toNat (by omega)
  have k1 := jS_isL hs (by omega)
  refine zMet.of (by decide) (Nat.le_of_ble_eq_true rfl) fun X K => ?_
  rcases ht with ⟨rfl, hn, hf⟩ | ⟨rfl, hn, hf⟩
  · have hf := hf i.toNat (by omega)
    have k2 := jL_at (c := t i.toNat) hA hV hN h0 (by omega) hr.1 hf.1 hf.2
    refine z_aload_n K dJ8_charAt_0 rfl rfl rfl ?_
    refine z_callV K (k1) cV_J8_492_J8 (hs) rfl rfl rfl (by omega) (by omega) (by omega) (Nat.le_of_ble_eq_true rfl) dJ8_charAt_1 zrX (zrK ?_)
    refine j_if_eq (tgt := 16) K dJ8_charAt_4 rfl (by omega) (fun c_4 => ?_) (fun c_4 => ?_)
    · exact absurd c_4 (by decide)
    · refine z_aload_n K dJ8_charAt_7 rfl rfl rfl ?_
      refine z_get K fd_J8_9_20 (hs) rfl dJ8_charAt_8 ?_
      refine z_iload_n K dJ8_charAt_11 rfl rfl ?_
      refine z_callS K (k2) cS_J8_495 rfl rfl (by omega) (by omega) (by omega) (Nat.le_of_ble_eq_true rfl) dJ8_charAt_12 zrX (zrK ?_)
      exact z_zret K (na_c hr.1 hr.2) (by omega) (by omega) (⟨rfl, rfl⟩) dJ8_charAt_15
  · have hf := hf i.toNat (by omega)
    have k2 := jU_at (c := t i.toNat) hA hV hN h0 (by omega) hr.1 hr.2 (by rw [← hf.1]; congr 1; omega) (by rw [← hf.2]; congr 1; omega)
    refine z_aload_n K dJ8_charAt_0 rfl rfl rfl ?_
    refine z_callV K (k1) cV_J8_492_J8 (hs) rfl rfl rfl (by omega) (by omega) (by omega) (Nat.le_of_ble_eq_true rfl) dJ8_charAt_1 zrX (zrK ?_)
    refine j_if_eq (tgt := 16) K dJ8_charAt_4 rfl (by omega) (fun c_4 => ?_) (fun c_4 => ?_)
    · refine z_aload_n K dJ8_charAt_16 rfl rfl rfl ?_
      refine z_get K fd_J8_9_20 (hs) rfl dJ8_charAt_17 ?_
      refine z_iload_n K dJ8_charAt_20 rfl rfl ?_
      refine z_callS K (k2) cS_J8_498 rfl rfl (by omega) (by omega) (by omega) (Nat.le_of_ble_eq_true rfl) dJ8_charAt_21 zrX (zrK ?_)
      exact z_zret K (na_c hr.1 hr.2) (by omega) (by omega) (⟨rfl, rfl⟩) dJ8_charAt_24
    · exact absurd rfl c_4

