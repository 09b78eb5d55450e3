/-! ===== StringBuilder: room ===== -/
theorem cpy_b {M N cnt : Nat} {f : Nat → Int} (h1 : cnt ≤ N) (h2 : cnt ≤ M) : (.inl (1, M, .inl (va_cpy (fun i => if i < N then iI ((f i).bmod 256) else 0) (fun _ => 0) 0 0 cnt)) : zC) = aB M (fun i => if i < cnt then f i else 0) := by
  unfold aB va_cpy
  congr 4
  funext i
  by_cases c : i < cnt
  · rw [if_pos ⟨by omega, by omega⟩, if_pos (by omega)]
    dsimp only
    rw [if_pos (by omega), if_pos c, show 0 + (i - 0) = i by omega]
  · rw [if_neg (by omega)]
    split
    · dsimp only
      rw [if_neg c]
      rfl
    · rfl
theorem jB_copyOf {h : zH} {V N nm : Nat} {M : Int} {f : Nat → Int} (hV : h V = some (aB N f)) (hN : N < M) (hM : M < 2000) (hf : h nm = none) (h8 : 1000 ≤ nm) : zMet yJ5_copyOf_3 (ws_ yJ5_copyOf_3 cJ5_copyOf_3 3 (some (.array .byte))) 2 [.ref V, .int (iI M)] h (zRet (.ref nm) (zup h nm (aB M.toNat (fun i => if i < N then f i else 0)))) 1 M.toNat := by
  refine zMet.of (by decide) (Nat.le_of_ble_eq_true rfl) fun X K => ?_
  have hna : V ≠ nm := fun e => by rw [e, hf] at hV; cases hV
  have hcl : ∀ z : Int, 0 ≤ z → z ≤ 100000 → (iI z).toNatClampNeg = z.toNat := fun z z0 z1 => iI_clamp z0 (by omega)
  refine z_iload_n K dJ5_copyOf_3_0 rfl rfl ?_
  refine z_aload_n K dJ5_copyOf_3_1 rfl rfl rfl ?_
  refine z_alen K (by first | exact hV | exact (zup_ne hna).trans hV) rfl dJ5_copyOf_3_2 ?_
  refine j_icmp_ne (tgt := 14) K dJ5_copyOf_3_3 rfl (by omega) (by omega) (fun c_3 => ?_) (fun c_3 => ?_)
  · refine z_iload_n K dJ5_copyOf_3_14 rfl rfl ?_
    refine z_newb K (nm) (by omega) (by omega) hf (by omega) (by omega) (by omega) dJ5_copyOf_3_15 ?_
    refine z_astore_n K dJ5_copyOf_3_17 rfl rfl (by decide) rfl ?_
    refine z_aload_n K dJ5_copyOf_3_18 rfl rfl rfl ?_
    refine j_iconst K dJ5_copyOf_3_19 ?_
    refine z_aload_n K dJ5_copyOf_3_20 rfl rfl rfl ?_
    refine j_iconst K dJ5_copyOf_3_21 ?_
    refine z_aload_n K dJ5_copyOf_3_22 rfl rfl rfl ?_
    refine z_alen K (by first | exact hV | exact (zup_ne hna).trans hV) rfl dJ5_copyOf_3_23 ?_
    refine z_iload_n K dJ5_copyOf_3_24 rfl rfl ?_
    refine z_callS K ((s_minJ (by omega) (by omega)).r) cS_J5_304 rfl rfl (by omega) (by omega) (by omega) (Nat.le_of_ble_eq_true rfl) dJ5_copyOf_3_25 zrX (zrK ?_)
    rw [show min (N : Int) M = N by omega]
    refine z_copyb (N0 := N) (N1 := M.toNat) K aB_fit ((zup_ne hna).trans hV) (zup_at _ _ _) h8 q241 (iI_n0 (by omega) (by omega)) (iI_n0 (by omega) (by omega)) (iI_n0 (by omega) (by omega)) ?_ ?_ (by omega) (Nat.le_of_ble_eq_true rfl) dJ5_copyOf_3_28 ?_
    · rw [hcl 0 (by omega) (by omega), hcl _ (by omega) (by omega)]; omega
    · rw [hcl 0 (by omega) (by omega), hcl _ (by omega) (by omega)]; omega
    rw [hcl 0 (by omega) (by omega), hcl _ (by omega) (by omega), zup_zup, show ((N : Nat) : Int).toNat = N by omega, show (0 : Int).toNat = 0 from rfl, cpy_b (by omega) (by omega)]
    refine z_aload_n K dJ5_copyOf_3_31 rfl rfl rfl ?_
    exact z_aret K (by simp) rfl (by omega) (by omega) (⟨rfl, rfl⟩) dJ5_copyOf_3_32
  · exact absurd c_3 (by omega)
abbrev oSB (V : Nat) (c n : Int) : zC := .inr (19, [.ref V, .int (iI c), .int 0, .int (iI n)])
theorem sb_isL {h : zH} {T V : Nat} {c n : Int} (hT : h T = some (oSB V c n)) (hc : c = 0 ∨ c = 1) : zMet yJ6_isLatin1 (ws_ yJ6_isLatin1 cJ6_isLatin1 1 (some .boolean)) 1 [.ref T] h (zRet (.int (iI (1 - c))) h) 0 0 := by
  refine zMet.of (by decide) (Nat.le_of_ble_eq_true rfl) fun X K => ?_
  refine j_getsI K 1 zst_6 (by decide +kernel) q332 dJ6_isLatin1_0 ?_
  refine j_if_eq (tgt := 17) K dJ6_isLatin1_3 rfl (by omega) (fun c_3 => ?_) (fun c_3 => ?_)
  · exact absurd c_3 (by decide)
  · refine z_aload_n K dJ6_isLatin1_6 rfl rfl rfl ?_
    refine z_get K fd_J6_22_19 (hT) rfl dJ6_isLatin1_7 ?_
    refine j_if_ne (tgt := 17) K dJ6_isLatin1_10 rfl (by omega) (fun c_10 => ?_) (fun c_10 => ?_)
    · have e : 1 - c = 0 := by omega
      refine j_iconst K dJ6_isLatin1_17 ?_
      exact z_zret K (iI_b (by omega)) (by omega) (by omega) (⟨by rw [e], rfl⟩) dJ6_isLatin1_18
    · have e : 1 - c = 1 := by omega
      refine j_iconst K dJ6_isLatin1_13 ?_
      refine z_goto (tgt := 18) K dJ6_isLatin1_14 rfl ?_
      exact z_zret K (iI_b (by omega)) (by omega) (by omega) (⟨by rw [e], rfl⟩) dJ6_isLatin1_18
theorem sl0 {a : Int} (h0 : 0 ≤ a) (h1 : a < 1000) : iI a <<< (iI 0 &&& 31) = iI a := by
  obtain ⟨x, rfl⟩ : ∃ x : Nat, a = x := ⟨a.toNat, by omega⟩
  exact sb0 x (by omega)
theorem sl1 {a : Int} (h0 : 0 ≤ a) (h1 : a < 1000) : iI a <<< (iI 1 &&& 31) = iI (2 * a) := by
  obtain ⟨x, rfl⟩ : ∃ x : Nat, a = x := ⟨a.toNat, by omega⟩
  exact sb1 x (by omega)
theorem slc {a c : Int} (hc : c = 0 ∨ c = 1) (h0 : 0 ≤ a) (h1 : a < 1000) : iI a <<< (iI c &&& 31) = iI (a + c * a) := by
  rcases hc with rfl | rfl
  · rw [sl0 h0 h1]; congr 1; omega
  · rw [sl1 h0 h1]; congr 1; omega
theorem src {a c : Int} (hc : c = 0 ∨ c = 1) (h0 : 0 ≤ a) (h1 : a < 100000) : iI a >>> (iI c &&& 31) = iI (a / (1 + c)) := by
  rcases hc with rfl | rfl
  · rw [sr0 h0 h1]; congr 1; omega
  · rw [sr1 h0 h1]; rfl
theorem sb_newCap {h : zH} {T V N : Nat} {f : Nat → Int} {c n mn : Int} (hT : h T = some (oSB V c n)) (hV : h V = some (aB N f)) (hN : N < 400) (hc : (c = 0 ∧ mn = N + 1) ∨ (c = 1 ∧ 2 * mn = N + 2)) : zMet yJ6_newCapacity (ws_ yJ6_newCapacity cJ6_newCapacity 6 (some .int)) 3 [.ref T, .int (iI mn)] h (zRet (.int (iI ((2 * N + 2 + 2 * c) / (1 + c)))) h) 0 0 := by
  have hc9 : c = 0 ∨ c = 1 := by omega
  have k1 := s_newLen (h := h) (a := N) (b := mn + c * mn - N) (c := N + (2 + c * 2)) (by omega) (by rcases hc with ⟨rfl, e⟩ | ⟨rfl, e⟩ <;> omega) (by rcases hc9 with rfl | rfl <;> omega)
  rw [show (N : Int) + max (mn + c * mn - N) (N + (2 + c * 2)) = 2 * N + 2 + 2 * c by rcases hc with ⟨rfl, e⟩ | ⟨rfl, e⟩ <;> omega] at k1
  refine zMet.of (by decide) (Nat.le_of_ble_eq_true rfl) fun X K => ?_
  refine z_aload_n K dJ6_newCapacity_0 rfl rfl rfl ?_
  refine z_get K fd_J6_15_19 (hT) rfl dJ6_newCapacity_1 ?_
  refine z_alen K (hV) rfl dJ6_newCapacity_4 ?_
  refine z_istore_n K dJ6_newCapacity_5 rfl (by decide) rfl ?_
  refine z_iload_n K dJ6_newCapacity_6 rfl rfl ?_
  refine z_aload_n K dJ6_newCapacity_7 rfl rfl rfl ?_
  refine z_get K fd_J6_22_19 (hT) rfl dJ6_newCapacity_8 ?_
  refine z_ishl K dJ6_newCapacity_11 ?_
  rw [slc hc9 (by omega) (by omega)]
  refine z_istore_n K dJ6_newCapacity_12 rfl (by decide) rfl ?_
  refine z_iload_n K dJ6_newCapacity_13 rfl rfl ?_
  refine z_iload_n K dJ6_newCapacity_14 rfl rfl ?_
  refine j_isub K dJ6_newCapacity_15 ?_
  refine z_istore K dJ6_newCapacity_16 (by decide) rfl ?_
  refine z_iload_n K dJ6_newCapacity_18 rfl rfl ?_
  refine z_iload K dJ6_newCapacity_19 rfl ?_
  refine z_iload_n K dJ6_newCapacity_21 rfl rfl ?_
  refine j_iconst K dJ6_newCapacity_22 ?_
  refine z_aload_n K dJ6_newCapacity_23 rfl rfl rfl ?_
  refine z_get K fd_J6_22_19 (hT) rfl dJ6_newCapacity_24 ?_
  refine z_ishl K dJ6_newCapacity_27 ?_
  rw [slc hc9 (by omega) (by omega)]
  refine j_iadd K dJ6_newCapacity_28 ?_
  refine z_callS K (k1) cS_J6_114 rfl rfl (by omega) (by omega) (by omega) (Nat.le_of_ble_eq_true rfl) dJ6_newCapacity_29 zrX (zrK ?_)
  refine z_istore K dJ6_newCapacity_32 (by decide) rfl ?_
  refine z_iload K dJ6_newCapacity_34 rfl ?_
  refine j_ldc K 2147483647 q1367 (by decide +kernel) dJ6_newCapacity_36 ?_
  refine j_icmp_ne (tgt := 51) K dJ6_newCapacity_38 rfl (by omega) (by omega) (fun c_38 => ?_) (fun c_38 => ?_)
  · refine z_iload K dJ6_newCapacity_51 rfl ?_
    refine z_aload_n K dJ6_newCapacity_53 rfl rfl rfl ?_
    refine z_get K fd_J6_22_19 (hT) rfl dJ6_newCapacity_54 ?_
    refine z_ishr K dJ6_newCapacity_57 ?_
    rw [src hc9 (by omega) (by omega)]
    exact z_iret K (by omega) (by omega) (⟨rfl, rfl⟩) dJ6_newCapacity_58
  · exact absurd c_38 (by omega)
theorem ens_t {c : Int} {N N' nn : Nat} {f t : Nat → Int} (hN : N ≤ N') (hle : (c = 0 ∧ nn ≤ N) ∨ (c = 1 ∧ 2 * nn ≤ N)) (ht : tcs c N f t nn) : tcs c N' (fun i => if i < N then f i else 0) t nn := by
  obtain ⟨h1, h2⟩ := ht
  refine ⟨h1, ?_⟩
  rcases h2 with ⟨e, q, hf⟩ | ⟨e, q, hf⟩
  · refine Or.inl ⟨e, by omega, fun i hi => ⟨(hf i hi).1, ?_⟩⟩
    dsimp only
    rw [if_pos (by omega)]
    exact (hf i hi).2
  · refine Or.inr ⟨e, by omega, fun i hi => ⟨?_, ?_⟩⟩
    · dsimp only
      rw [if_pos (by omega)]
      exact (hf i hi).1
    · dsimp only
      rw [if_pos (by omega)]
      exact (hf i hi).2
/-- there is room for one more -/
theorem sb_ens {h : zH} {T V N a nn : Nat} {f t : Nat → Int} {c : Int} (hT : h T = some (oSB V c nn)) (hV : h V = some (aB N f)) (T8 : 1000 ≤ T) (hTV : T ≠ V) (hN : N < 400) (ht : tcs c N f t nn) (hev : c = 0 ∨ N % 2 = 0) (hf : h a = none) (a8 : 1000 ≤ a) :
    zMet yJ6_ensureCapacityInternal (ws_ yJ6_ensureCapacityInternal cJ6_ensureCapacityInternal 3 none) 4 [.ref T, .int (iI (nn + 1))] h (fun o h' => o = .inl none ∧ ∃ V' N' f', h' = zup (if V' = V then h else zup h V' (aB N' f')) T (oSB V' c nn) ∧ ((V' = V ∧ N' = N ∧ f' = f) ∨ (V' = a ∧ N' = 2 * N + 2 + 2 * c.toNat ∧ ((c = 0 ∧ N' ≤ 2 * nn + 2) ∨ (c = 1 ∧ N' ≤ 4 * nn + 4)))) ∧ tcs c N' f' t nn ∧ ((c = 0 ∧ nn + 1 ≤ N') ∨ (c = 1 ∧ 2 * nn + 2 ≤ N' ∧ N' % 2 = 0))) 1 810 := by
  have hc9 : c = 0 ∨ c = 1 := by rcases ht.2 with z | z <;> omega
  have haV : V ≠ a := fun e => by rw [e, hf] at hV; cases hV
  have haT : T ≠ a := fun e => by rw [e, hf] at hT; cases hT
  have hle : (c = 0 ∧ nn ≤ N) ∨ (c = 1 ∧ 2 * nn ≤ N) := by rcases ht.2 with ⟨z, z1, -⟩ | ⟨z, z1, -⟩ <;> omega
  refine zMet.of (by decide) (Nat.le_of_ble_eq_true rfl) fun X K => ?_
  refine z_aload_n K dJ6_ensureCapacityInternal_0 rfl rfl rfl ?_
  refine z_get K fd_J6_15_19 (by first | exact hT | exact (zup_ne haT).trans hT) rfl dJ6_ensureCapacityInternal_1 ?_
  refine z_alen K (hV) rfl dJ6_ensureCapacityInternal_4 ?_
  refine z_aload_n K dJ6_ensureCapacityInternal_5 rfl rfl rfl ?_
  refine z_get K fd_J6_22_19 (by first | exact hT | exact (zup_ne haT).trans hT) rfl dJ6_ensureCapacityInternal_6 ?_
  refine z_ishr K dJ6_ensureCapacityInternal_9 ?_
  rw [src hc9 (by omega) (by omega)]
  refine z_istore_n K dJ6_ensureCapacityInternal_10 rfl (by decide) rfl ?_
  refine z_iload_n K dJ6_ensureCapacityInternal_11 rfl rfl ?_
  refine z_iload_n K dJ6_ensureCapacityInternal_12 rfl rfl ?_
  refine j_isub K dJ6_ensureCapacityInternal_13 ?_
  refine j_if_le (tgt := 38) K dJ6_ensureCapacityInternal_14 rfl (by rcases hc9 with rfl | rfl <;> omega) (fun c_14 => ?_) (fun c_14 => ?_)
  · exact z_vret K (by omega) (by omega) (⟨rfl, V, N, f, by rw [if_pos rfl, zup_self hT], Or.inl ⟨rfl, rfl, rfl⟩, ht, by rcases hc9 with rfl | rfl <;> omega⟩) dJ6_ensureCapacityInternal_38
  · have hfull : (c = 0 ∧ (nn : Int) + 1 = N + 1) ∨ (c = 1 ∧ 2 * ((nn : Int) + 1) = N + 2) := by rcases hc9 with rfl | rfl <;> omega
    have k1 := sb_newCap hT hV hN hfull
    have k2 := jB_copyOf (M := 2 * N + 2 + 2 * c) hV (by omega) (by omega) hf a8
    refine z_aload_n K dJ6_ensureCapacityInternal_17 rfl rfl rfl ?_
    refine z_aload_n K dJ6_ensureCapacityInternal_18 rfl rfl rfl ?_
    refine z_get K fd_J6_15_19 (by first | exact hT | exact (zup_ne haT).trans hT) rfl dJ6_ensureCapacityInternal_19 ?_
    refine z_aload_n K dJ6_ensureCapacityInternal_22 rfl rfl rfl ?_
    refine z_iload_n K dJ6_ensureCapacityInternal_23 rfl rfl ?_
    refine z_callP K k1 cP_J6_104 hT rfl rfl rfl (by decide) (by omega) (by omega) (Nat.le_of_ble_eq_true rfl) dJ6_ensureCapacityInternal_24 zrX (zrK ?_)
    refine z_aload_n K dJ6_ensureCapacityInternal_27 rfl rfl rfl ?_
    refine z_get K fd_J6_22_19 (by first | exact hT | exact (zup_ne haT).trans hT) rfl dJ6_ensureCapacityInternal_28 ?_
    refine z_ishl K dJ6_ensureCapacityInternal_31 ?_
    rw [slc hc9 (by rcases hc9 with rfl | rfl <;> omega) (by rcases hc9 with rfl | rfl <;> omega), show (2 * (N : Int) + 2 + 2 * c) / (1 + c) + c * ((2 * (N : Int) + 2 + 2 * c) / (1 + c)) = 2 * N + 2 + 2 * c by rcases hc9 with rfl | rfl <;> omega]
    refine z_callS K (k2) cS_J6_108 rfl rfl (by omega) (by omega) (by omega) (Nat.le_of_ble_eq_true rfl) dJ6_ensureCapacityInternal_32 zrX (zrK ?_)
    refine z_putE K fd_J6_15_19 ⟨_, rfl, Or.inl rfl⟩ (by first | exact hT | exact (zup_ne haT).trans hT) (by omega) (Nat.le_of_ble_eq_true rfl) (zf_a) dJ6_ensureCapacityInternal_35 (rfl) ?_
    exact z_vret K (by omega) (by omega) (⟨rfl, a, (2 * (N : Int) + 2 + 2 * c).toNat, fun i => if i < N then f i else 0, by rw [if_neg haV.symm]; rfl, Or.inr ⟨rfl, by rcases hc9 with rfl | rfl <;> omega, by rcases hc9 with rfl | rfl <;> omega⟩, ens_t (by omega) (by rcases hc9 with rfl | rfl <;> omega) ht, by rcases hc9 with rfl | rfl <;> omega⟩) dJ6_ensureCapacityInternal_38

