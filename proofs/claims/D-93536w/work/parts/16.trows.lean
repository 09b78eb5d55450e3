/-! ===== contracts and calls of the reference's methods; longs ===== -/
def tMi (y : MethodName) (cc : ByteArray) (nL : Nat) (rt : FieldType) (d : Nat) (as : List Value) (w : tW) (P : Int → tW → Prop) : Prop :=
  zMet y (ws_ y cc nL (some rt)) d (.ref 1000 :: as) (tH w) (zPi fun x h' => ∃ v w', x = iI v ∧ h' = tH w' ∧ P v w') 0 0
def tMv (y : MethodName) (cc : ByteArray) (nL : Nat) (d : Nat) (as : List Value) (w : tW) (P : tW → Prop) : Prop :=
  zMet y (ws_ y cc nL none) d (.ref 1000 :: as) (tH w) (zPv fun h' => ∃ w', h' = tH w' ∧ P w') 0 0
/-- a static method that answers a number and changes nothing -/
def zMs (y : MethodName) (cc : ByteArray) (nL : Nat) (rt : FieldType) (d : Nat) (as : List Value) (v : Int) : Prop :=
  ∀ h : zH, zMet y (ws_ y cc nL (some rt)) d as h (zPi fun x h' => x = iI v ∧ h' = h) 0 0
def lI (z : Int) : Int64 := Int64.ofInt z
theorem lI_toInt {a : Int} (h : -9223372036854775808 ≤ a ∧ a ≤ 9223372036854775807) : (lI a).toInt = a := Int64.toInt_ofInt_of_le (by simpa using h.1) (by have := h.2; simp; omega)
theorem lI_of {a : Int} (h : -2147483648 ≤ a ∧ a ≤ 2147483647) : (iI a).toInt64 = lI a := by
  apply Int64.toInt_inj.mp
  rw [Int32.toInt_toInt64, iI_toInt h, lI_toInt (by omega)]
section ZTC
variable {y : MethodName} {cc : ByteArray} {nL : Nat} {ret : Option FieldType} {hh : List (Nat × Nat × Nat × Nat)} {d kc ks : Nat} {X : zX} {Q : zO → zH → Prop} {h : zH} {w : tW} {k n pc : Nat} {env : List (Nat × Value)} {st : List Value}
theorem t_calli (K : zK y cc nL ret hh d kc ks X) {idx : Nat} {z : MethodName} {bytes : ByteArray} {maxL : Nat} {rt : FieldType} {na d' : Nat} {as : List Value} {P : Int → tW → Prop} {stk : List Value}
    (hM : tMi z bytes maxL rt d' as w P) (cw : zcV y.cls idx RX4 z bytes maxL (some rt) na) (hna : as.length = na) (hstk : as.reverse ++ .ref 1000 :: st = stk) (hd : d' < d) (hcat : (st.map fun v => v.category).sum ≤ 8) (hk : k ≤ kc) (hn : n ≤ ks)
    (dd : decode cc pc = .ok (.invokevirtual idx, 3)) (kk : ∀ v w', P v w' → zW X Q (tH w') k n (pc + 3) env (.int (iI v) :: st)) : zW X Q (tH w) k n pc env stk :=
  z_callV K hM cw (tH_this w) rfl hna hstk hd hk hn hcat dd z_kxi (z_kki fun x h' ⟨v, w', e1, e2, hp⟩ => by rw [e1, e2]; exact kk v w' hp)
theorem t_callp (K : zK y cc nL ret hh d kc ks X) {idx : Nat} {z : MethodName} {bytes : ByteArray} {maxL : Nat} {rt : FieldType} {na d' : Nat} {as : List Value} {V : Int} {stk : List Value}
    (hM : tMi z bytes maxL rt d' as w (fun v w' => v = V ∧ w' = w)) (cw : zcV y.cls idx RX4 z bytes maxL (some rt) na) (hna : as.length = na) (hstk : as.reverse ++ .ref 1000 :: st = stk) (hd : d' < d) (hcat : (st.map fun v => v.category).sum ≤ 8) (hk : k ≤ kc) (hn : n ≤ ks)
    (dd : decode cc pc = .ok (.invokevirtual idx, 3)) (kk : zW X Q (tH w) k n (pc + 3) env (.int (iI V) :: st)) : zW X Q (tH w) k n pc env stk :=
  t_calli K hM cw hna hstk hd hcat hk hn dd (fun v w' ⟨e1, e2⟩ => by rw [e1, e2]; exact kk)
theorem t_callv (K : zK y cc nL ret hh d kc ks X) {idx : Nat} {z : MethodName} {bytes : ByteArray} {maxL : Nat} {na d' : Nat} {as : List Value} {P : tW → Prop} {stk : List Value}
    (hM : tMv z bytes maxL d' as w P) (cw : zcV y.cls idx RX4 z bytes maxL none na) (hna : as.length = na) (hstk : as.reverse ++ .ref 1000 :: st = stk) (hd : d' < d) (hcat : (st.map fun v => v.category).sum ≤ 8) (hk : k ≤ kc) (hn : n ≤ ks)
    (dd : decode cc pc = .ok (.invokevirtual idx, 3)) (kk : ∀ w', P w' → zW X Q (tH w') k n (pc + 3) env st) : zW X Q (tH w) k n pc env stk :=
  z_callV K hM cw (tH_this w) rfl hna hstk hd hk hn hcat dd z_kxv (z_kkv fun h' ⟨w', e2, hp⟩ => by rw [e2]; exact kk w' hp)
theorem z_calls (K : zK y cc nL ret hh d kc ks X) {idx : Nat} {z : MethodName} {bytes : ByteArray} {maxL : Nat} {rt : FieldType} {na d' : Nat} {as : List Value} {v : Int} {stk : List Value}
    (hM : zMs z bytes maxL rt d' as v) (cw : zcS y.cls idx z bytes maxL (some rt) na) (hna : as.length = na) (hstk : as.reverse ++ st = stk) (hd : d' < d) (hcat : (st.map fun v => v.category).sum ≤ 8) (hk : k ≤ kc) (hn : n ≤ ks)
    (dd : decode cc pc = .ok (.invokestatic idx, 3)) (kk : zW X Q h k n (pc + 3) env (.int (iI v) :: st)) : zW X Q h k n pc env stk :=
  z_callS K (hM h) cw hna hstk hd hk hn hcat dd z_kxi (z_kki fun x h' ⟨e1, e2⟩ => by rw [e1, e2]; exact kk)
theorem t_iret {P : Int → tW → Prop} (K : zK y cc nL (some .int) hh d kc ks X) {v : Int} (hk : k ≤ kc) (hn : n ≤ ks) (hq : P v w) (dd : decode cc pc = .ok (.ireturn, 1)) : zW X (zPi fun x h' => ∃ v w', x = iI v ∧ h' = tH w' ∧ P v w') (tH w) k n pc env [.int (iI v)] :=
  z_iret K hk hn ⟨_, rfl, v, w, rfl, rfl, hq⟩ dd
theorem iI_b {v : Int} (hv : v = 0 ∨ v = 1) : narrow .boolean (.int (iI v)) = .int (iI v) := by rcases hv with rfl | rfl <;> decide +kernel
theorem t_zret {P : Int → tW → Prop} (K : zK y cc nL (some .boolean) hh d kc ks X) {v : Int} (hv : v = 0 ∨ v = 1) (hk : k ≤ kc) (hn : n ≤ ks) (hq : P v w) (dd : decode cc pc = .ok (.ireturn, 1)) : zW X (zPi fun x h' => ∃ v w', x = iI v ∧ h' = tH w' ∧ P v w') (tH w) k n pc env [.int (iI v)] :=
  z_zret K (iI_b hv) hk hn ⟨_, rfl, v, w, rfl, rfl, hq⟩ dd
theorem t_vret {P : tW → Prop} (K : zK y cc nL none hh d kc ks X) (hk : k ≤ kc) (hn : n ≤ ks) (hq : P w) (dd : decode cc pc = .ok (.return_, 1)) : zW X (zPv fun h' => ∃ w', h' = tH w' ∧ P w') (tH w) k n pc env [] :=
  z_vret K hk hn ⟨rfl, w, rfl, hq⟩ dd
theorem s_iret (K : zK y cc nL (some .int) hh d kc ks X) {v u : Int} (hk : k ≤ kc) (hn : n ≤ ks) (hq : v = u) (dd : decode cc pc = .ok (.ireturn, 1)) : zW X (zPi fun x h' => x = iI u ∧ h' = h) h k n pc env [.int (iI v)] :=
  z_iret K hk hn ⟨_, rfl, by rw [hq], rfl⟩ dd
theorem s_zret (K : zK y cc nL (some .boolean) hh d kc ks X) {v u : Int} (hv : v = 0 ∨ v = 1) (hk : k ≤ kc) (hn : n ≤ ks) (hq : v = u) (dd : decode cc pc = .ok (.ireturn, 1)) : zW X (zPi fun x h' => x = iI u ∧ h' = h) h k n pc env [.int (iI v)] :=
  z_zret K (iI_b hv) hk hn ⟨_, rfl, by rw [hq], rfl⟩ dd
theorem j_i2l (K : zK y cc nL ret hh d kc ks X) {a : Int} (ha : -2147483648 ≤ a ∧ a ≤ 2147483647) (dd : decode cc pc = .ok (.i2l, 1)) (kk : zW X Q h k n (pc + 1) env (.long (lI a) :: st)) : zW X Q h k n pc env (.int (iI a) :: st) := z_i2l K dd (by rw [lI_of ha]; exact kk)
theorem j_lconst0 (K : zK y cc nL ret hh d kc ks X) (dd : decode cc pc = .ok (.lconst 0, 1)) (kk : zW X Q h k n (pc + 1) env (.long (lI 0) :: st)) : zW X Q h k n pc env st := z_lconst K dd rfl kk
theorem j_lconst1 (K : zK y cc nL ret hh d kc ks X) (dd : decode cc pc = .ok (.lconst 1, 1)) (kk : zW X Q h k n (pc + 1) env (.long (lI 1) :: st)) : zW X Q h k n pc env st := z_lconst K dd rfl kk
theorem j_ldc2 (K : zK y cc nL ret hh d kc ks X) {idx : Nat} {v : Int64} (a : Int) (hw : Jvm.Cond.constantLong y.cls idx v ∈ lw_all) (hv : v = lI a) (dd : decode cc pc = .ok (.ldc2_w idx, 3)) (kk : zW X Q h k n (pc + 3) env (.long (lI a) :: st)) : zW X Q h k n pc env st := z_ldc2 K hw dd (by rw [hv]; exact kk)
theorem lI_cmp {a b : Int} (ha : -9223372036854775808 ≤ a ∧ a ≤ 9223372036854775807) (hb : -9223372036854775808 ≤ b ∧ b ≤ 9223372036854775807) : lg_cmp (lI a) (lI b) = iI (if a < b then -1 else if a = b then 0 else 1) := by
  unfold lg_cmp
  have h1 : (lI a < lI b) ↔ a < b := by rw [Int64.lt_iff_toInt_lt, lI_toInt ha, lI_toInt hb]
  have h2 : (lI b < lI a) ↔ b < a := by rw [Int64.lt_iff_toInt_lt, lI_toInt ha, lI_toInt hb]
  have h3 : (lI a = lI b) ↔ a = b := by rw [← Int64.toInt_inj, lI_toInt ha, lI_toInt hb]
  rcases Int.lt_trichotomy a b with q | q | q
  · have q2 : ¬ b < a := by omega
    have q3 : ¬ a = b := by omega
    simp only [h1, h2, h3, q, q2, q3, if_true, if_false]
    rfl
  · have q1 : ¬ a < b := by omega
    have q2 : ¬ b < a := by omega
    simp only [h1, h2, h3, q, q1, q2, if_true, if_false]
    first | rfl | (simp; rfl)
  · have q1 : ¬ a < b := by omega
    have q3 : ¬ a = b := by omega
    simp only [h1, h2, h3, q, q1, q3, if_true, if_false]
    rfl
theorem j_lcmp (K : zK y cc nL ret hh d kc ks X) {a b : Int} (ha : -9223372036854775808 ≤ a ∧ a ≤ 9223372036854775807) (hb : -9223372036854775808 ≤ b ∧ b ≤ 9223372036854775807) (dd : decode cc pc = .ok (.lcmp, 1)) (kk : zW X Q h k n (pc + 1) env (.int (iI (if a < b then -1 else if a = b then 0 else 1)) :: st)) : zW X Q h k n pc env (.long (lI b) :: .long (lI a) :: st) := z_lcmp K dd (by rw [lI_cmp ha hb]; exact kk)
end ZTC
