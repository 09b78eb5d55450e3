/-! ===== java.util.ArrayList, and what it calls ===== -/
theorem zup4 {h : zH} {L nm : Nat} {A A' B B' : zC} (hne : L ≠ nm) : zup (zup (zup (zup h nm A) L B) nm A') L B' = zup (zup h nm A') L B' := by
  funext m
  by_cases e1 : m = L
  · subst e1; rw [zup_at, zup_at]
  · rw [zup_ne e1, zup_ne e1]
    by_cases e2 : m = nm
    · subst e2; rw [zup_at, zup_at]
    · rw [zup_ne e2, zup_ne e1, zup_ne e2, zup_ne e2]
theorem jl_size {h : zH} {L a : Nat} {c n : Int} (hL : h L = some (oL c a n)) : zMet yJ2_size (ws_ yJ2_size cJ2_size 1 (some .int)) 1 [.ref L] h (zRet (.int (iI n)) h) 0 0 := by
  refine zMet.of (by decide) (Nat.le_of_ble_eq_true rfl) fun X K => ?_
  refine z_aload_n K dJ2_size_0 rfl rfl rfl ?_
  refine z_get K fd_J2_48_18 (hL) rfl dJ2_size_1 ?_
  exact z_iret K (by omega) (by omega) (⟨rfl, rfl⟩) dJ2_size_4
theorem jl_isEmpty {h : zH} {L a : Nat} {c n : Int} (hL : h L = some (oL c a n)) (hn : 0 ≤ n ∧ n ≤ 100000) : zMet yJ2_isEmpty (ws_ yJ2_isEmpty cJ2_isEmpty 1 (some .boolean)) 1 [.ref L] h (zRet (.int (iI (bI (n = 0)))) h) 0 0 := by
  refine zMet.of (by decide) (Nat.le_of_ble_eq_true rfl) fun X K => ?_
  refine z_aload_n K dJ2_isEmpty_0 rfl rfl rfl ?_
  refine z_get K fd_J2_48_18 (hL) rfl dJ2_isEmpty_1 ?_
  refine j_if_ne (tgt := 11) K dJ2_isEmpty_4 rfl (by omega) (fun c_4 => ?_) (fun c_4 => ?_)
  · refine j_iconst K dJ2_isEmpty_11 ?_
    exact z_zret K (iI_b (by omega)) (by omega) (by omega) (⟨by first | rw [show bI (n = 0) = 1 from if_pos c_4] | rw [show bI (n = 0) = 0 from if_neg c_4], rfl⟩) dJ2_isEmpty_12
  · refine j_iconst K dJ2_isEmpty_7 ?_
    refine z_goto (tgt := 12) K dJ2_isEmpty_8 rfl ?_
    exact z_zret K (iI_b (by omega)) (by omega) (by omega) (⟨by first | rw [show bI (n = 0) = 1 from if_pos c_4] | rw [show bI (n = 0) = 0 from if_neg c_4], rfl⟩) dJ2_isEmpty_12
theorem s_chk {h : zH} {i n : Int} {v : Value} (hv : zisr v = true) (h0 : 0 ≤ i) (h1 : i < n) (h2 : n ≤ 2147483647) : zMet yJ18_checkIndex (ws_ yJ18_checkIndex cJ18_checkIndex 3 (some .int)) 1 [.int (iI i), .int (iI n), v] h (zRet (.int (iI i)) h) 0 0 := by
  refine zMet.of (by decide) (by cases v <;> first | exact Nat.le_of_ble_eq_true rfl | cases hv) fun X K => ?_
  have hl : lv_args 0 [.int (iI i), .int (iI n), v] = [(0, .int (iI i)), (1, .int (iI n)), (2, v)] := rfl
  rw [hl]
  refine z_iload_n K dJ18_checkIndex_0 rfl rfl ?_
  refine j_if_lt (tgt := 9) K dJ18_checkIndex_1 rfl (by omega) (fun c_1 => ?_) (fun c_1 => ?_)
  · exact absurd c_1 (by omega)
  · refine z_iload_n K dJ18_checkIndex_4 rfl rfl ?_
    refine z_iload_n K dJ18_checkIndex_5 rfl rfl ?_
    refine j_icmp_lt (tgt := 16) K dJ18_checkIndex_6 rfl (by omega) (by omega) (fun c_6 => ?_) (fun c_6 => ?_)
    · refine z_iload_n K dJ18_checkIndex_16 rfl rfl ?_
      exact z_iret K (by omega) (by omega) (⟨rfl, rfl⟩) dJ18_checkIndex_17
    · exact absurd c_6 (by omega)
theorem s_chkO {h : zH} {i n : Int} (h0 : 0 ≤ i) (h1 : i < n) (h2 : n ≤ 2147483647) : zMet yJ17_checkIndex (ws_ yJ17_checkIndex cJ17_checkIndex 2 (some .int)) 2 [.int (iI i), .int (iI n)] h (zRet (.int (iI i)) h) 0 0 := by
  refine zMet.of (by decide) (Nat.le_of_ble_eq_true rfl) fun X K => ?_
  refine z_iload_n K dJ17_checkIndex_0 rfl rfl ?_
  refine z_iload_n K dJ17_checkIndex_1 rfl rfl ?_
  refine z_null K dJ17_checkIndex_2 ?_
  refine z_callS K (s_chk rfl h0 h1 h2) cS_J17_105 rfl rfl (by omega) (by omega) (by omega) (Nat.le_of_ble_eq_true rfl) dJ17_checkIndex_3 zrX (zrK ?_)
  exact z_iret K (by omega) (by omega) (⟨rfl, rfl⟩) dJ17_checkIndex_6
theorem aR_at {k : Nat} {f : Nat → Nat} {i : Nat} (hi : i < k) : zrv (if i < k then some (f i) else none) = .ref (f i) := by rw [if_pos hi]; rfl
theorem jl_elem {h : zH} {L a N k : Nat} {c n i : Int} {f : Nat → Nat} (hL : h L = some (oL c a n)) (ha : h a = some (aR N k f)) (hk : k ≤ N) (hN : N ≤ 100000) (h0 : 0 ≤ i) (h1 : i < (k : Int)) : zMet yJ2_elementData (ws_ yJ2_elementData cJ2_elementData 2 (some (.object "java/lang/Object"))) 1 [.ref L, .int (iI i)] h (zRet (.ref (f i.toNat)) h) 0 0 := by
  refine zMet.of (by decide) (Nat.le_of_ble_eq_true rfl) fun X K => ?_
  refine z_aload_n K dJ2_elementData_0 rfl rfl rfl ?_
  refine z_get K fd_J2_9_18 (hL) rfl dJ2_elementData_1 ?_
  refine z_iload_n K dJ2_elementData_4 rfl rfl ?_
  refine z_aald K ha h0 (by omega) hN (aR_at (by omega)) dJ2_elementData_5 ?_
  exact z_aret K (by simp) rfl (by omega) (by omega) (⟨rfl, rfl⟩) dJ2_elementData_6
theorem jl_get {h : zH} {L a N k : Nat} {c n i : Int} {f : Nat → Nat} (hL : h L = some (oL c a n)) (ha : h a = some (aR N k f)) (hk : k ≤ N) (hN : N ≤ 100000) (h0 : 0 ≤ i) (h1 : i < n) (hn : n = (k : Int)) : zMet yJ2_get (ws_ yJ2_get cJ2_get 2 (some (.object "java/lang/Object"))) 3 [.ref L, .int (iI i)] h (zRet (.ref (f i.toNat)) h) 0 0 := by
  refine zMet.of (by decide) (Nat.le_of_ble_eq_true rfl) fun X K => ?_
  refine z_iload_n K dJ2_get_0 rfl rfl ?_
  refine z_aload_n K dJ2_get_1 rfl rfl rfl ?_
  refine z_get K fd_J2_48_18 (hL) rfl dJ2_get_2 ?_
  refine z_callS K (s_chkO h0 h1 (by omega)) cS_J2_118 rfl rfl (by omega) (by omega) (by omega) (Nat.le_of_ble_eq_true rfl) dJ2_get_5 zrX (zrK ?_)
  refine z_pop K dJ2_get_8 rfl ?_
  refine z_aload_n K dJ2_get_9 rfl rfl rfl ?_
  refine z_iload_n K dJ2_get_10 rfl rfl ?_
  refine z_callV K (jl_elem hL ha hk hN h0 (by omega)) cV_J2_123_J2 (hL) rfl rfl rfl (by omega) (by omega) (by omega) (Nat.le_of_ble_eq_true rfl) dJ2_get_11 zrX (zrK ?_)
  exact z_aret K (by simp) rfl (by omega) (by omega) (⟨rfl, rfl⟩) dJ2_get_14
/-! growing -/
theorem s_minJ {a b : Int} (ha : -2147483648 ≤ a ∧ a ≤ 2147483647) (hb : -2147483648 ≤ b ∧ b ≤ 2147483647) : zMs yJ4_min cJ4_min 2 .int 1 [.int (iI a), .int (iI b)] (min a b) := by
  intro h
  refine zMet.of (by decide +kernel) (Nat.le_of_ble_eq_true rfl) fun X K => ?_
  refine z_iload_n K dJ4_min_0 rfl rfl ?_
  refine z_iload_n K dJ4_min_1 rfl rfl ?_
  refine j_icmp_gt (tgt := 9) K dJ4_min_2 rfl (by omega) (by omega) (fun c_2 => ?_) (fun c_2 => ?_)
  · refine z_iload_n K dJ4_min_9 rfl rfl ?_
    exact z_iret K (by omega) (by omega) (⟨_, rfl, by first | rw [Int.min_eq_left (by omega)] | rw [Int.min_eq_right (by omega)], rfl⟩) dJ4_min_10
  · refine z_iload_n K dJ4_min_5 rfl rfl ?_
    refine z_goto (tgt := 10) K dJ4_min_6 rfl ?_
    exact z_iret K (by omega) (by omega) (⟨_, rfl, by first | rw [Int.min_eq_left (by omega)] | rw [Int.min_eq_right (by omega)], rfl⟩) dJ4_min_10
theorem zMs.r {y : MethodName} {cc : ByteArray} {nL : Nat} {rt : FieldType} {d : Nat} {as : List Value} {v : Int} {h : zH} (q : zMs y cc nL rt d as v) : zMet y (ws_ y cc nL (some rt)) d as h (zRet (.int (iI v)) h) 0 0 := (q h).mono (fun o h' ⟨x, e1, e2, e3⟩ => ⟨by rw [e1, e2], e3⟩)
theorem s_newLen {h : zH} {a b c : Int} (ha : 0 ≤ a ∧ a ≤ 100000) (hb : 1 ≤ b ∧ b ≤ 100000) (hc : 0 ≤ c ∧ c ≤ 100000) : zMet yJ3_newLength (ws_ yJ3_newLength cJ3_newLength 4 (some .int)) 2 [.int (iI a), .int (iI b), .int (iI c)] h (zRet (.int (iI (a + max b c))) h) 0 0 := by
  refine zMet.of (by decide) (Nat.le_of_ble_eq_true rfl) fun X K => ?_
  refine z_iload_n K dJ3_newLength_0 rfl rfl ?_
  refine z_iload_n K dJ3_newLength_1 rfl rfl ?_
  refine z_iload_n K dJ3_newLength_2 rfl rfl ?_
  refine z_callS K ((s_max (by omega) (by omega)).r) cS_J3_194 rfl rfl (by omega) (by omega) (by omega) (Nat.le_of_ble_eq_true rfl) dJ3_newLength_3 zrX (zrK ?_)
  refine j_iadd K dJ3_newLength_6 ?_
  refine z_istore_n K dJ3_newLength_7 rfl (by decide) rfl ?_
  refine j_iconst K dJ3_newLength_8 ?_
  refine z_iload_n K dJ3_newLength_9 rfl rfl ?_
  refine j_icmp_ge (tgt := 21) K dJ3_newLength_10 rfl (by omega) (by omega) (fun c_10 => ?_) (fun c_10 => ?_)
  · exact absurd c_10 (by omega)
  · refine z_iload_n K dJ3_newLength_13 rfl rfl ?_
    refine j_ldc K 2147483639 q194 (by decide +kernel) dJ3_newLength_14 ?_
    refine j_icmp_gt (tgt := 21) K dJ3_newLength_16 rfl (by omega) (by omega) (fun c_16 => ?_) (fun c_16 => ?_)
    · exact absurd c_16 (by omega)
    · refine z_iload_n K dJ3_newLength_19 rfl rfl ?_
      exact z_iret K (by omega) (by omega) (⟨rfl, rfl⟩) dJ3_newLength_20
/-- the first k of an array of references, as the array has them -/
abbrev rF (k : Nat) (f : Nat → Nat) : Nat → Option Nat := fun i => if i < k then some (f i) else none
theorem rF_cpy {N k M : Nat} {f : Nat → Nat} (hk : k ≤ N) : va_cpy (rF k f) (fun _ => none) 0 0 (min N M) = rF (min k M) f := by
  funext j
  by_cases hj : j < min N M
  · rw [pk_cpy_in (by omega) (by omega)]
    show rF k f (0 + (j - 0)) = rF (min k M) f j
    rw [show 0 + (j - 0) = j by omega]
    unfold rF
    by_cases h1 : j < k
    · rw [if_pos h1, if_pos (by omega)]
    · rw [if_neg h1, if_neg (by omega)]
  · rw [pk_cpy_out (by omega)]
    unfold rF
    rw [if_neg (by omega)]
theorem rF_up {k x : Nat} {f : Nat → Nat} : va_up (rF k f) k (some x) = rF (k + 1) (fun i => if i = k then x else f i) := by
  funext j
  by_cases hj : j = k
  · subst hj
    rw [va_up_self]
    unfold rF
    dsimp only
    rw [if_pos (by omega), if_pos rfl]
  · rw [va_up_ne _ _ hj]
    unfold rF
    by_cases h1 : j < k
    · dsimp only
      rw [if_pos h1, if_pos (by omega), if_neg hj]
    · rw [if_neg h1, if_neg (by omega)]
theorem jl_copyOf2 {h : zH} {a N k nm : Nat} {M : Int} {f : Nat → Nat} {c7 : zC} (ha : h a = some (aR N k f)) (h7 : h 7 = some c7) (hk : k ≤ N) (hN : N ≤ 100000) (hM : 0 ≤ M ∧ M ≤ 100000) (he : ∀ i, i < k → zOb h (f i)) (hf : h nm = none) (h8 : 1000 ≤ nm) : zMet yJ5_copyOf_2 (ws_ yJ5_copyOf_2 cJ5_copyOf_2 4 (some (.array (.object "java/lang/Object")))) 2 [.ref a, .int (iI M), .ref 7] h (zRet (.ref nm) (zup h nm (aR M.toNat (min k M.toNat) f))) 1 M.toNat := by
  refine zMet.of (by decide) (Nat.le_of_ble_eq_true rfl) fun X K => ?_
  have hna : a ≠ nm := fun e => by rw [e, hf] at ha; cases ha
  have hcl : ∀ z : Int, 0 ≤ z → z ≤ 100000 → (iI z).toNatClampNeg = z.toNat := fun z z0 z1 => iI_clamp z0 (by omega)
  refine z_aload_n K dJ5_copyOf_2_0 rfl rfl rfl ?_
  refine z_ldcM K q235 h7 dJ5_copyOf_2_1 ?_
  refine z_acmpNS (tgt := 13) K dJ5_copyOf_2_3 rfl ?_
  refine z_iload_n K dJ5_copyOf_2_6 rfl rfl ?_
  refine z_newq K nm q237 hM.1 hM.2 hf h8 (by omega) (by omega) dJ5_copyOf_2_7 ?_
  rw [aR_none]
  refine z_goto (tgt := 24) K dJ5_copyOf_2_10 rfl ?_
  refine z_astore_n K dJ5_copyOf_2_24 rfl rfl (by decide) rfl ?_
  refine z_aload_n K dJ5_copyOf_2_25 rfl rfl rfl ?_
  refine j_iconst K dJ5_copyOf_2_26 ?_
  refine z_aload_n K dJ5_copyOf_2_27 rfl rfl rfl ?_
  refine j_iconst K dJ5_copyOf_2_28 ?_
  refine z_aload_n K dJ5_copyOf_2_29 rfl rfl rfl ?_
  refine z_alen K (by rw [zup_ne hna]; exact ha) rfl dJ5_copyOf_2_30 ?_
  refine z_iload_n K dJ5_copyOf_2_31 rfl rfl ?_
  refine z_callS K ((s_minJ (by omega) (by omega)).r) cS_J5_304 rfl rfl (by omega) (by omega) (by omega) (Nat.le_of_ble_eq_true rfl) dJ5_copyOf_2_32 zrX (zrK ?_)
  refine z_copyq (N0 := N) (N1 := M.toNat) (f := rF k f) (g := fun _ => none) K (fun i hi q hq => ?_) (by rw [zup_ne hna]; exact ha) (zup_at _ _ _) h8 q241 (iI_n0 (by omega) (by omega)) (iI_n0 (by omega) (by omega)) (iI_n0 (by omega) (by omega)) ?_ ?_ (by omega) (Nat.le_of_ble_eq_true rfl) dJ5_copyOf_2_35 ?_
  · (have hik : i < k := by (by_cases z : i < k; exact z; exfalso; rw [hcl 0 (by omega) (by omega)] at hq; simp [rF, z] at hq)); rw [hcl 0 (by omega) (by omega)] at hq; simp [rF, hik] at hq; rw [← hq]; exact (he i hik).up (fun e => by have := he i hik; rw [e] at this; rcases this with ⟨_, _, _, o1, _, _⟩ | ⟨_, _, o1⟩ <;> (rw [hf] at o1; cases o1))
  · rw [hcl 0 (by omega) (by omega), hcl _ (by omega) (by omega)]; omega
  · rw [hcl 0 (by omega) (by omega), hcl _ (by omega) (by omega)]; omega
  rw [hcl 0 (by omega) (by omega), hcl _ (by omega) (by omega), zup_zup, show (min (N : Int) M).toNat = min N M.toNat by omega, show (0 : Int).toNat = 0 from rfl, rF_cpy hk]
  refine z_aload_n K dJ5_copyOf_2_38 rfl rfl rfl ?_
  exact z_aret K (by simp) rfl (by omega) (by omega) (⟨rfl, rfl⟩) dJ5_copyOf_2_39
theorem jl_copyOf {h : zH} {a N k nm : Nat} {M : Int} {f : Nat → Nat} {c7 : zC} (ha : h a = some (aR N k f)) (h7 : h 7 = some c7) (hk : k ≤ N) (hN : N ≤ 100000) (hM : 0 ≤ M ∧ M ≤ 100000) (he : ∀ i, i < k → zOb h (f i)) (hf : h nm = none) (h8 : 1000 ≤ nm) : zMet yJ5_copyOf (ws_ yJ5_copyOf cJ5_copyOf 2 (some (.array (.object "java/lang/Object")))) 3 [.ref a, .int (iI M)] h (zRet (.ref nm) (zup h nm (aR M.toNat (min k M.toNat) f))) 1 M.toNat := by
  refine zMet.of (by decide) (Nat.le_of_ble_eq_true rfl) fun X K => ?_
  refine z_aload_n K dJ5_copyOf_0 rfl rfl rfl ?_
  refine z_iload_n K dJ5_copyOf_1 rfl rfl ?_
  refine z_aload_n K dJ5_copyOf_2 rfl rfl rfl ?_
  refine z_getC K ha q201 q2317 q202 h7 (by omega) (Nat.le_of_ble_eq_true rfl) dJ5_copyOf_3 ?_
  refine z_callS K (jl_copyOf2 ha h7 hk hN hM he hf h8) cS_J5_300 rfl rfl (by omega) (by omega) (by omega) (Nat.le_of_ble_eq_true rfl) dJ5_copyOf_6 zrX (zrK ?_)
  exact z_aret K (by simp) rfl (by omega) (by omega) (⟨rfl, rfl⟩) dJ5_copyOf_9
/-! grow(int): of an empty list; of a full one -/
theorem jl_growE {h : zH} {L nm : Nat} {c n m : Int} {f : Nat → Nat} (hL : h L = some (oL c 1 n)) (h1 : h 1 = some (aR 0 0 f)) (hm : 1 ≤ m ∧ m ≤ 10) (hf : h nm = none) (h8 : 1000 ≤ nm) (hL8 : 1000 ≤ L) : zMet yJ2_grow_2 (ws_ yJ2_grow_2 cJ2_grow_2 4 (some (.array (.object "java/lang/Object")))) 4 [.ref L, .int (iI m)] h (zRet (.ref nm) (zup (zup h nm (aR 10 0 (fun _ => 0))) L (oL c nm n))) 1 22 := by
  refine zMet.of (by decide) (Nat.le_of_ble_eq_true rfl) fun X K => ?_
  have hne : L ≠ nm := fun e => by rw [e, hf] at hL; cases hL
  refine z_aload_n K dJ2_grow_2_0 rfl rfl rfl ?_
  refine z_get K fd_J2_9_18 (hL) rfl dJ2_grow_2_1 ?_
  refine z_alen K (h1) rfl dJ2_grow_2_4 ?_
  refine z_istore_n K dJ2_grow_2_5 rfl (by decide) rfl ?_
  refine z_iload_n K dJ2_grow_2_6 rfl rfl ?_
  refine j_if_gt (tgt := 20) K dJ2_grow_2_7 rfl (by omega) (fun c_7 => ?_) (fun c_7 => ?_)
  · exact absurd c_7 (by omega)
  · refine z_aload_n K dJ2_grow_2_10 rfl rfl rfl ?_
    refine z_get K fd_J2_9_18 (hL) rfl dJ2_grow_2_11 ?_
    refine z_gets K zst_0 q158 (h1) dJ2_grow_2_14 ?_
    refine z_acmpS (tgt := 45) K dJ2_grow_2_17 rfl ?_
    refine z_aload_n K dJ2_grow_2_45 rfl rfl rfl ?_
    refine j_bipush K dJ2_grow_2_46 (by decide +kernel) ?_
    refine z_iload_n K dJ2_grow_2_48 rfl rfl ?_
    refine z_callS K ((s_max (by omega) (by omega)).r) cS_J2_79 rfl rfl (by omega) (by omega) (by omega) (Nat.le_of_ble_eq_true rfl) dJ2_grow_2_49 zrX (zrK ?_)
    rw [show max 10 m = 10 by omega]
    refine z_newq K nm q245 (by omega) (by omega) hf h8 (by omega) (Nat.le_of_ble_eq_true rfl) dJ2_grow_2_52 ?_
    rw [aR_none]
    refine z_dup_x1 K dJ2_grow_2_55 rfl rfl ?_
    refine z_putE K fd_J2_9_18 ⟨_, rfl, Or.inl rfl⟩ (by rw [zup_ne hne]; exact hL) hL8 (Nat.le_of_ble_eq_true rfl) zf_a dJ2_grow_2_56 rfl ?_
    exact z_aret K (by simp) rfl (Nat.le_of_ble_eq_true rfl) (Nat.le_of_ble_eq_true rfl) (⟨rfl, rfl⟩) dJ2_grow_2_59
theorem jl_growF {h : zH} {L a N nm : Nat} {c n : Int} {f : Nat → Nat} {c7 : zC} (hL : h L = some (oL c a n)) (ha : h a = some (aR N N f)) (h1 : ∃ c1, h 1 = some c1) (h7 : h 7 = some c7) (ha1 : a ≠ 1) (hN : N = 10 ∨ N = 15) (he : ∀ i, i < N → zOb h (f i)) (hf : h nm = none) (h8 : 1000 ≤ nm) (hL8 : 1000 ≤ L) (ha8 : 1000 ≤ a) : zMet yJ2_grow_2 (ws_ yJ2_grow_2 cJ2_grow_2 4 (some (.array (.object "java/lang/Object")))) 4 [.ref L, .int (iI (N + 1))] h (zRet (.ref nm) (zup (zup h nm (aR (N + N / 2) N f)) L (oL c nm n))) 1 22 := by
  refine zMet.of (by decide) (Nat.le_of_ble_eq_true rfl) fun X K => ?_
  have hne : L ≠ nm := fun e => by rw [e, hf] at hL; cases hL
  have hsh : (iI (N : Int)) >>> (iI 1 &&& 31) = iI ((N / 2 : Nat) : Int) := by rcases hN with rfl | rfl <;> decide +kernel
  obtain ⟨c1, h1⟩ := h1
  refine z_aload_n K dJ2_grow_2_0 rfl rfl rfl ?_
  refine z_get K fd_J2_9_18 (hL) rfl dJ2_grow_2_1 ?_
  refine z_alen K (ha) rfl dJ2_grow_2_4 ?_
  refine z_istore_n K dJ2_grow_2_5 rfl (by decide) rfl ?_
  refine z_iload_n K dJ2_grow_2_6 rfl rfl ?_
  refine j_if_gt (tgt := 20) K dJ2_grow_2_7 rfl (by omega) (fun c_7 => ?_) (fun c_7 => ?_)
  · refine z_iload_n K dJ2_grow_2_20 rfl rfl ?_
    refine z_iload_n K dJ2_grow_2_21 rfl rfl ?_
    refine z_iload_n K dJ2_grow_2_22 rfl rfl ?_
    refine j_isub K dJ2_grow_2_23 ?_
    refine z_iload_n K dJ2_grow_2_24 rfl rfl ?_
    refine j_iconst K dJ2_grow_2_25 ?_
    refine z_ishr K dJ2_grow_2_26 ?_
    rw [hsh]
    refine z_callS K (s_newLen (by omega) (by omega) (by omega)) cS_J2_73 rfl rfl (by omega) (by omega) (by omega) (Nat.le_of_ble_eq_true rfl) dJ2_grow_2_27 zrX (zrK ?_)
    refine z_istore_n K dJ2_grow_2_30 rfl (by decide) rfl ?_
    refine z_aload_n K dJ2_grow_2_31 rfl rfl rfl ?_
    refine z_aload_n K dJ2_grow_2_32 rfl rfl rfl ?_
    refine z_get K fd_J2_9_18 (hL) rfl dJ2_grow_2_33 ?_
    refine z_iload_n K dJ2_grow_2_36 rfl rfl ?_
    refine z_callS K (jl_copyOf (nm := nm) ha h7 (Nat.le_refl N) (by omega) (by omega) he hf h8) cS_J2_66 rfl rfl (by omega) (by omega) (by omega) (Nat.le_of_ble_eq_true rfl) dJ2_grow_2_37 zrX (zrK ?_)
    rw [show ((N : Int) + max ((N : Int) + 1 - N) ((N / 2 : Nat) : Int)).toNat = N + N / 2 by omega, show min N (N + N / 2) = N by omega]
    refine z_dup_x1 K dJ2_grow_2_40 rfl rfl ?_
    refine z_putE K fd_J2_9_18 ⟨_, rfl, Or.inl rfl⟩ (by rw [zup_ne hne]; exact hL) hL8 (Nat.le_of_ble_eq_true rfl) zf_a dJ2_grow_2_41 rfl ?_
    exact z_aret K (by simp) rfl (by omega) (by omega) (⟨rfl, rfl⟩) dJ2_grow_2_44
  · exact absurd c_7 (by omega)
/-! add(Object) -/
theorem jl_add2 {h : zH} {L a N k x : Nat} {c : Int} {f : Nat → Nat} (hL : h L = some (oL c a k)) (ha : h a = some (aR N k f)) (hk : k < N) (hN : N ≤ 1000) (hx : zOb h x) (hL8 : 1000 ≤ L) (ha8 : 1000 ≤ a) (mc ms : Nat) : zMet yJ2_add_2 (ws_ yJ2_add_2 cJ2_add_2 4 none) 6 [.ref L, .ref x, .ref a, .int (iI k)] h (zVd (zup (zup h a (aR N (k + 1) (fun i => if i = k then x else f i))) L (oL c a (k + 1)))) mc ms := by
  refine zMet.of (by decide) (Nat.le_of_ble_eq_true rfl) fun X K => ?_
  have hne : L ≠ a := fun e => by rw [e, ha] at hL; cases hL
  refine z_iload_n K dJ2_add_2_0 rfl rfl ?_
  refine z_aload_n K dJ2_add_2_1 rfl rfl rfl ?_
  refine z_alen K (ha) rfl dJ2_add_2_2 ?_
  refine j_icmp_ne (tgt := 11) K dJ2_add_2_3 rfl (by omega) (by omega) (fun c_3 => ?_) (fun c_3 => ?_)
  · refine z_aload_n K dJ2_add_2_11 rfl rfl rfl ?_
    refine z_iload_n K dJ2_add_2_12 rfl rfl ?_
    refine z_aload_n K dJ2_add_2_13 rfl rfl rfl ?_
    refine z_aastq K ha ha8 hx (by omega) (by omega) (by omega) dJ2_add_2_14 ?_
    rw [show ((k : Nat) : Int).toNat = k by omega, rF_up]
    refine z_aload_n K dJ2_add_2_15 rfl rfl rfl ?_
    refine z_iload_n K dJ2_add_2_16 rfl rfl ?_
    refine j_iconst K dJ2_add_2_17 ?_
    refine j_iadd K dJ2_add_2_18 ?_
    refine z_putE K fd_J2_48_18 ⟨_, rfl, Or.inl rfl⟩ (by rw [zup_ne hne]; exact hL) hL8 (Nat.le_of_ble_eq_true rfl) zf_i dJ2_add_2_19 rfl ?_
    exact z_vret K (by omega) (by omega) (⟨rfl, rfl⟩) dJ2_add_2_22
  · exact absurd c_3 (by omega)
theorem jl_grow1 {h h2 : zH} {L a v : Nat} {c n : Int} (hL : h L = some (oL c a n)) (hg : zMet yJ2_grow_2 (ws_ yJ2_grow_2 cJ2_grow_2 4 (some (.array (.object "java/lang/Object")))) 4 [.ref L, .int (iI (n + 1))] h (zRet (.ref v) h2) 1 22) : zMet yJ2_grow (ws_ yJ2_grow cJ2_grow 1 (some (.array (.object "java/lang/Object")))) 5 [.ref L] h (zRet (.ref v) h2) 1 22 := by
  refine zMet.of (by decide) (Nat.le_of_ble_eq_true rfl) fun X K => ?_
  refine z_aload_n K dJ2_grow_0 rfl rfl rfl ?_
  refine z_aload_n K dJ2_grow_1 rfl rfl rfl ?_
  refine z_get K fd_J2_48_18 (hL) rfl dJ2_grow_2 ?_
  refine j_iconst K dJ2_grow_5 ?_
  refine j_iadd K dJ2_grow_6 ?_
  refine z_callV K (hg) cV_J2_69_J2 (hL) rfl rfl rfl (by omega) (by omega) (by omega) (Nat.le_of_ble_eq_true rfl) dJ2_grow_7 zrX (zrK ?_)
  exact z_aret K (by simp) rfl (Nat.le_of_ble_eq_true rfl) (Nat.le_of_ble_eq_true rfl) (⟨rfl, rfl⟩) dJ2_grow_10
/-- .. where the list grows: to the array nm of the length M -/
theorem jl_add2G {h : zH} {L a N M nm k x : Nat} {c : Int} {f f' : Nat → Nat} (hL : h L = some (oL c a k)) (ha : h a = some (aR k N f')) (hkM : k < M) (hM : M ≤ 1000) (hx : zOb h x) (hf : h nm = none) (hL8 : 1000 ≤ L) (h8 : 1000 ≤ nm) (hg : zMet yJ2_grow_2 (ws_ yJ2_grow_2 cJ2_grow_2 4 (some (.array (.object "java/lang/Object")))) 4 [.ref L, .int (iI (k + 1))] h (zRet (.ref nm) (zup (zup h nm (aR M k f)) L (oL c nm k))) 1 22) : zMet yJ2_add_2 (ws_ yJ2_add_2 cJ2_add_2 4 none) 6 [.ref L, .ref x, .ref a, .int (iI k)] h (zVd (zup (zup h nm (aR M (k + 1) (fun i => if i = k then x else f i))) L (oL c nm (k + 1)))) 1 22 := by
  refine zMet.of (by decide) (Nat.le_of_ble_eq_true rfl) fun X K => ?_
  have hne : L ≠ nm := fun e => by rw [e, hf] at hL; cases hL
  have hxn : x ≠ nm := fun e => by rw [e] at hx; rcases hx with ⟨_, _, _, o1, _, _⟩ | ⟨_, _, o1⟩ <;> (rw [hf] at o1; cases o1)
  refine z_iload_n K dJ2_add_2_0 rfl rfl ?_
  refine z_aload_n K dJ2_add_2_1 rfl rfl rfl ?_
  refine z_alen K (ha) rfl dJ2_add_2_2 ?_
  refine j_icmp_ne (tgt := 11) K dJ2_add_2_3 rfl (by omega) (by omega) (fun c_3 => ?_) (fun c_3 => ?_)
  · exact absurd rfl c_3
  · refine z_aload_n K dJ2_add_2_6 rfl rfl rfl ?_
    refine z_callV K (jl_grow1 hL hg) cV_J2_129_J2 (hL) rfl rfl rfl (by omega) (by omega) (by omega) (Nat.le_of_ble_eq_true rfl) dJ2_add_2_7 zrX (zrK ?_)
    refine z_astore_n K dJ2_add_2_10 rfl rfl (by decide) rfl ?_
    refine z_aload_n K dJ2_add_2_11 rfl rfl rfl ?_
    refine z_iload_n K dJ2_add_2_12 rfl rfl ?_
    refine z_aload_n K dJ2_add_2_13 rfl rfl rfl ?_
    refine z_aastq K (N := M) (f := rF k f) ((zup_ne hne.symm).trans (zup_at _ _ _)) h8 ((hx.up hxn).upO (fs' := [.int (iI c), .ref a, .int (iI k)]) (by rw [zup_ne hne]; exact hL)) (by omega) (by omega) (by omega) dJ2_add_2_14 ?_
    rw [show ((k : Nat) : Int).toNat = k by omega, rF_up]
    refine z_aload_n K dJ2_add_2_15 rfl rfl rfl ?_
    refine z_iload_n K dJ2_add_2_16 rfl rfl ?_
    refine j_iconst K dJ2_add_2_17 ?_
    refine j_iadd K dJ2_add_2_18 ?_
    refine z_putE (h1 := zup (zup h nm (aR M (k + 1) (fun i => if i = k then x else f i))) L (oL c nm (k + 1))) K fd_J2_48_18 ⟨_, rfl, Or.inl rfl⟩ ((zup_ne hne).trans (zup_at _ _ _)) hL8 (Nat.le_of_ble_eq_true rfl) zf_i dJ2_add_2_19 ?he ?_
    · exact zup4 hne
    exact z_vret K (Nat.le_of_ble_eq_true rfl) (Nat.le_of_ble_eq_true rfl) (⟨rfl, rfl⟩) dJ2_add_2_22
theorem jl_addX {h h2 : zH} {L a x : Nat} {c k : Int} {mc ms : Nat} (hL : h L = some (oL c a k)) (hL8 : 1000 ≤ L) (hg : zMet yJ2_add_2 (ws_ yJ2_add_2 cJ2_add_2 4 none) 6 [.ref L, .ref x, .ref a, .int (iI k)] (zup h L (oL (c + 1) a k)) (zVd h2) mc ms) : zMet yJ2_add (ws_ yJ2_add cJ2_add 2 (some .boolean)) 7 [.ref L, .ref x] h (zRet (.int (iI 1)) h2) mc ms := by
  refine zMet.of (by decide) (Nat.le_of_ble_eq_true rfl) fun X K => ?_
  refine z_aload_n K dJ2_add_0 rfl rfl rfl ?_
  refine z_dup K dJ2_add_1 rfl ?_
  refine z_get K fd_J2_63_18 (hL) rfl dJ2_add_2 ?_
  refine j_iconst K dJ2_add_5 ?_
  refine j_iadd K dJ2_add_6 ?_
  refine z_putE K fd_J2_63_18 ⟨_, rfl, Or.inl rfl⟩ (hL) (by omega) (Nat.le_of_ble_eq_true rfl) (zf_i) dJ2_add_7 (rfl) ?_
  refine z_aload_n K dJ2_add_10 rfl rfl rfl ?_
  refine z_aload_n K dJ2_add_11 rfl rfl rfl ?_
  refine z_aload_n K dJ2_add_12 rfl rfl rfl ?_
  refine z_get K fd_J2_9_18 (zup_at _ _ _) rfl dJ2_add_13 ?_
  refine z_aload_n K dJ2_add_16 rfl rfl rfl ?_
  refine z_get K fd_J2_48_18 (zup_at _ _ _) rfl dJ2_add_17 ?_
  refine z_callV K (hg) cV_J2_131_J2 (zup_at _ _ _) rfl rfl rfl (by omega) (by omega) (by omega) (Nat.le_of_ble_eq_true rfl) dJ2_add_20 zvX (zvK ?_)
  refine j_iconst K dJ2_add_23 ?_
  exact z_zret K (iI_b (by omega)) (by omega) (by omega) (⟨rfl, rfl⟩) dJ2_add_24
/-- with room left -/
theorem jl_addA {h : zH} {L a N k x : Nat} {c : Int} {f : Nat → Nat} (hL : h L = some (oL c a k)) (ha : h a = some (aR N k f)) (hk : k < N) (hN : N ≤ 1000) (hx : zOb h x) (hL8 : 1000 ≤ L) (ha8 : 1000 ≤ a) (mc ms : Nat) : zMet yJ2_add (ws_ yJ2_add cJ2_add 2 (some .boolean)) 7 [.ref L, .ref x] h (zRet (.int (iI 1)) (zup (zup h a (aR N (k + 1) (fun i => if i = k then x else f i))) L (oL (c + 1) a (k + 1)))) mc ms := by
  have hne : L ≠ a := fun e => by rw [e, ha] at hL; cases hL
  have h9 := jl_add2 (h := zup h L (oL (c + 1) a k)) (zup_at _ _ _) (by rw [zup_ne hne.symm]; exact ha) hk hN (hx.upO hL) hL8 ha8 mc ms
  rw [zup_comm hne, zup_zup] at h9
  exact jl_addX hL hL8 h9
/-- of an empty list -/
theorem jl_addE {h : zH} {L nm x : Nat} {c : Int} {f : Nat → Nat} (hL : h L = some (oL c 1 0)) (h1 : h 1 = some (aR 0 0 f)) (hx : zOb h x) (hf : h nm = none) (hL8 : 1000 ≤ L) (h8 : 1000 ≤ nm) : zMet yJ2_add (ws_ yJ2_add cJ2_add 2 (some .boolean)) 7 [.ref L, .ref x] h (zRet (.int (iI 1)) (zup (zup h nm (aR 10 1 (fun _ => x))) L (oL (c + 1) nm 1))) 1 22 := by
  have hne : L ≠ nm := fun e => by rw [e, hf] at hL; cases hL
  have hf' : (zup h L (oL (c + 1) 1 0)) nm = none := by rw [zup_ne hne.symm]; exact hf
  have h1' : (zup h L (oL (c + 1) 1 0)) 1 = some (aR 0 0 f) := by rw [zup_ne (by omega)]; exact h1
  have g := jl_growE (h := zup h L (oL (c + 1) 1 0)) (m := 1) (nm := nm) (zup_at _ _ _) h1' (by omega) hf' h8 hL8
  have h9 := jl_add2G (h := zup h L (oL (c + 1) 1 0)) (k := 0) (M := 10) (N := 0) (f := fun _ => 0) (x := x) (zup_at _ _ _) h1' (by omega) (by omega) (hx.upO hL) hf' hL8 h8 g
  rw [zup_comm hne, zup_zup, aR_congr (g := fun _ => x) rfl (fun i hi => by rw [if_pos (by omega)])] at h9
  exact jl_addX hL hL8 h9
/-- of a full list -/
theorem jl_addF {h : zH} {L a N nm x : Nat} {c : Int} {f : Nat → Nat} {c1 c7 : zC} (hL : h L = some (oL c a N)) (ha : h a = some (aR N N f)) (h1 : h 1 = some c1) (h7 : h 7 = some c7) (hN : N = 10 ∨ N = 15) (he : ∀ i, i < N → zOb h (f i)) (hx : zOb h x) (hf : h nm = none) (hL8 : 1000 ≤ L) (ha8 : 1000 ≤ a) (h8 : 1000 ≤ nm) : zMet yJ2_add (ws_ yJ2_add cJ2_add 2 (some .boolean)) 7 [.ref L, .ref x] h (zRet (.int (iI 1)) (zup (zup h nm (aR (N + N / 2) (N + 1) (fun i => if i = N then x else f i))) L (oL (c + 1) nm (N + 1)))) 1 22 := by
  have hne : L ≠ nm := fun e => by rw [e, hf] at hL; cases hL
  have hna : L ≠ a := fun e => by rw [e, ha] at hL; cases hL
  have hf' : (zup h L (oL (c + 1) a N)) nm = none := by rw [zup_ne hne.symm]; exact hf
  have ha' : (zup h L (oL (c + 1) a N)) a = some (aR N N f) := by rw [zup_ne hna.symm]; exact ha
  have g := jl_growF (h := zup h L (oL (c + 1) a N)) (nm := nm) (zup_at _ _ _) ha' ⟨c1, by rw [zup_ne (by omega)]; exact h1⟩ (by rw [zup_ne (by omega)]; exact h7) (by omega) hN (fun i hi => (he i hi).upO hL) hf' h8 hL8 ha8
  have h9 := jl_add2G (h := zup h L (oL (c + 1) a N)) (M := N + N / 2) (x := x) (zup_at _ _ _) ha' (by omega) (by omega) (hx.upO hL) hf' hL8 h8 g
  rw [zup_comm hne, zup_zup] at h9
  exact jl_addX hL hL8 h9
/-! clear(), toArray(), addAll(Collection), the constructor -/
theorem rF_dn {k i : Nat} {f : Nat → Nat} (hi : i < k) : va_up (fun j => if i ≤ j then rF k f j else none) i none = (fun j => if i + 1 ≤ j then rF k f j else none) := by
  funext j
  by_cases hj : j = i
  · subst hj
    rw [va_up_self, if_neg (by omega)]
  · rw [va_up_ne _ _ hj]
    by_cases h1 : i ≤ j
    · rw [if_pos h1, if_pos (by omega)]
    · rw [if_neg h1, if_neg (by omega)]
theorem jl_clear {h : zH} {L a N k : Nat} {c : Int} {f : Nat → Nat} (hL : h L = some (oL c a k)) (ha : h a = some (aR N k f)) (hk : k ≤ N) (hN : N ≤ 1000) (hL8 : 1000 ≤ L) (ha8 : 1000 ≤ a ∨ k = 0) : zMet yJ2_clear (ws_ yJ2_clear cJ2_clear 4 none) 1 [.ref L] h (zVd (zup (zup h a (aR N 0 f)) L (oL (c + 1) a 0))) 0 0 := by
  have hne : L ≠ a := fun e => by rw [e, ha] at hL; cases hL
  refine zMet.of (by decide) (Nat.le_of_ble_eq_true rfl) fun X K => ?_
  have loop : ∀ (r i : Nat), i + r = k → ∀ env, zsub env [(1, .ref a), (2, .int (iI k)), (3, .int (iI i))] → zW X (zVd (zup (zup h a (aR N 0 f)) L (oL (c + 1) a 0))) (zup (zup h a (.inl (6, N, .inr (.inr (.inr (.inr (fun j => if i ≤ j then rF k f j else none))))))) L (oL (c + 1) a 0)) 0 0 27 env [] := by
    intro r
    induction r with
    | zero =>
      intro i hi env he
      refine zW.cut he ?_
      refine z_iload_n K dJ2_clear_27 rfl rfl ?_
      refine z_iload_n K dJ2_clear_28 rfl rfl ?_
      refine j_icmp_ge (tgt := 42) K dJ2_clear_29 rfl (by omega) (by omega) (fun c_29 => ?_) (fun c_29 => ?_)
      · exact z_vret K (by omega) (by omega) (⟨rfl, by congr 2; unfold aR; congr 7; funext j; by_cases h1 : i ≤ j; rw [if_pos h1]; unfold rF; rw [if_neg (by omega), if_neg (by omega)]; rw [if_neg h1, if_neg (by omega)]⟩) dJ2_clear_42
      · exact absurd c_29 (by omega)
    | succ r ih =>
      intro i hi env he
      refine zW.cut he ?_
      refine z_iload_n K dJ2_clear_27 rfl rfl ?_
      refine z_iload_n K dJ2_clear_28 rfl rfl ?_
      refine j_icmp_ge (tgt := 42) K dJ2_clear_29 rfl (by omega) (by omega) (fun c_29 => ?_) (fun c_29 => ?_)
      · exact absurd c_29 (by omega)
      · refine z_aload_n K dJ2_clear_32 rfl rfl rfl ?_
        refine z_iload_n K dJ2_clear_33 rfl rfl ?_
        refine z_null K dJ2_clear_34 ?_
        refine z_aastN K (N := N) ((zup_ne hne.symm).trans (zup_at _ _ _)) (by omega) (by omega) (by omega) (by omega) dJ2_clear_35 ?_
        rw [show ((i : Nat) : Int).toNat = i by omega, rF_dn (by omega), zup_comm hne, zup_zup]
        refine j_iinc K dJ2_clear_36 rfl (by decide) rfl ?_
        refine z_goto (tgt := 27) K dJ2_clear_39 rfl ?_
        exact ih (i + 1) (by omega) _ ⟨rfl, rfl, rfl, trivial⟩
  refine z_aload_n K dJ2_clear_0 rfl rfl rfl ?_
  refine z_dup K dJ2_clear_1 rfl ?_
  refine z_get K fd_J2_63_18 (hL) rfl dJ2_clear_2 ?_
  refine j_iconst K dJ2_clear_5 ?_
  refine j_iadd K dJ2_clear_6 ?_
  refine z_putE K fd_J2_63_18 ⟨_, rfl, Or.inl rfl⟩ (hL) (by omega) (Nat.le_of_ble_eq_true rfl) (zf_i) dJ2_clear_7 (rfl) ?_
  refine z_aload_n K dJ2_clear_10 rfl rfl rfl ?_
  refine z_get K fd_J2_9_18 (zup_at _ _ _) rfl dJ2_clear_11 ?_
  refine z_astore_n K dJ2_clear_14 rfl rfl (by decide) rfl ?_
  refine z_aload_n K dJ2_clear_15 rfl rfl rfl ?_
  refine z_get K fd_J2_48_18 (zup_at _ _ _) rfl dJ2_clear_16 ?_
  refine z_istore_n K dJ2_clear_19 rfl (by decide) rfl ?_
  refine z_aload_n K dJ2_clear_20 rfl rfl rfl ?_
  refine j_iconst K dJ2_clear_21 ?_
  refine z_dup_x1 K dJ2_clear_22 rfl rfl ?_
  refine z_putE (h1 := zup h L (oL (c + 1) a 0)) K fd_J2_48_18 ⟨_, rfl, Or.inl rfl⟩ (zup_at _ _ _) hL8 (Nat.le_of_ble_eq_true rfl) zf_i dJ2_clear_23 zup_zup ?_
  refine z_istore_n K dJ2_clear_26 rfl (by decide) rfl ?_
  rw [show zup h L (oL (c + 1) a 0) = zup (zup h a (.inl (6, N, .inr (.inr (.inr (.inr (fun j => if 0 ≤ j then rF k f j else none))))))) L (oL (c + 1) a 0) by congr 1; exact (zup_self (ha.trans (by unfold aR; congr 8))).symm]
  exact loop k 0 (by omega) _ ⟨rfl, rfl, rfl, trivial⟩
theorem jl_toArray {h : zH} {L a N k nm : Nat} {c : Int} {f : Nat → Nat} {c7 : zC} (hL : h L = some (oL c a k)) (ha : h a = some (aR N k f)) (h7 : h 7 = some c7) (hk : k ≤ N) (hN : N ≤ 1000) (he : ∀ i, i < k → zOb h (f i)) (hf : h nm = none) (h8 : 1000 ≤ nm) : zMet yJ2_toArray (ws_ yJ2_toArray cJ2_toArray 1 (some (.array (.object "java/lang/Object")))) 4 [.ref L] h (zRet (.ref nm) (zup h nm (aR k k f))) 1 k := by
  refine zMet.of (by decide) (Nat.le_of_ble_eq_true rfl) fun X K => ?_
  have h9 := jl_copyOf (M := k) ha h7 hk (by omega) (by omega) he hf h8
  rw [show ((k : Nat) : Int).toNat = k by omega, show min k k = k by omega] at h9
  refine z_aload_n K dJ2_toArray_0 rfl rfl rfl ?_
  refine z_get K fd_J2_9_18 (hL) rfl dJ2_toArray_1 ?_
  refine z_aload_n K dJ2_toArray_4 rfl rfl rfl ?_
  refine z_get K fd_J2_48_18 (hL) rfl dJ2_toArray_5 ?_
  refine z_callS K (h9) cS_J2_66 rfl rfl (by omega) (by omega) (by omega) (Nat.le_of_ble_eq_true rfl) dJ2_toArray_8 zrX (zrK ?_)
  exact z_aret K (by simp) rfl (by omega) (by omega) (⟨rfl, rfl⟩) dJ2_toArray_11

