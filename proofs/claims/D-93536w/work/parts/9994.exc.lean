/-! ===== what can be thrown is made ===== -/
/-- the value of a static: the cell named n, or null -/
def thV (h : zH) (n : Nat) : Value := match h n with
  | some _ => .ref n
  | none => .null
theorem thV_r {h : zH} {n : Nat} : zisr (thV h n) = true := by unfold thV; split <;> rfl
theorem thV_up {h : zH} {n q : Nat} {c : zC} (e : n ≠ q) : thV (zup h q c) n = thV h n := by unfold thV; rw [zup_ne e]
/-- the fields of Throwable in the class ci -/
def thFd (ci : Nat) : Prop := zfd RJ10 7 ci 0 ∧ zfd RJ10 17 ci 1 ∧ zfd RJ10 24 ci 2 ∧ zfd RJ10 31 ci 3 ∧ (∀ y j, j < 4 → zmay y ci j) ∧ zfty ci 0 = .object "java/lang/Throwable" ∧ zfty ci 1 = .array (.object "java/lang/StackTraceElement") ∧ zfty ci 2 = .object "java/util/List" ∧ zfty ci 3 = .object "java/lang/String"
theorem may4 {y : MethodName} {ci j : Nat} {q : vw_C} (hz : zcl[ci]? = some q) (h : ∀ j, j < 4 → (q.2.1 j).2.2.2 = false) (hj : j < 4) : zmay y ci j := ⟨q, hz, Or.inl (h j hj)⟩
theorem thfd_7 : thFd 7 := ⟨fd_J10_7_7, fd_J10_17_7, fd_J10_24_7, fd_J10_31_7, fun _ _ hj => may4 rfl (by decide) hj, rfl, rfl, rfl, rfl⟩
theorem thfd_8 : thFd 8 := ⟨fd_J10_7_8, fd_J10_17_8, fd_J10_24_8, fd_J10_31_8, fun _ _ hj => may4 rfl (by decide) hj, rfl, rfl, rfl, rfl⟩
theorem thfd_14 : thFd 14 := ⟨fd_J10_7_14, fd_J10_17_14, fd_J10_24_14, fd_J10_31_14, fun _ _ hj => may4 rfl (by decide) hj, rfl, rfl, rfl, rfl⟩
theorem thfd_16 : thFd 16 := ⟨fd_J10_7_16, fd_J10_17_16, fd_J10_24_16, fd_J10_31_16, fun _ _ hj => may4 rfl (by decide) hj, rfl, rfl, rfl, rfl⟩
theorem thfd_17 : thFd 17 := ⟨fd_J10_7_17, fd_J10_17_17, fd_J10_24_17, fd_J10_31_17, fun _ _ hj => may4 rfl (by decide) hj, rfl, rfl, rfl, rfl⟩
theorem thfd_22 : thFd 22 := ⟨fd_J10_7_22, fd_J10_17_22, fd_J10_24_22, fd_J10_31_22, fun _ _ hj => may4 rfl (by decide) hj, rfl, rfl, rfl, rfl⟩
theorem thfd_23 : thFd 23 := ⟨fd_J10_7_23, fd_J10_17_23, fd_J10_24_23, fd_J10_31_23, fun _ _ hj => may4 rfl (by decide) hj, rfl, rfl, rfl, rfl⟩
theorem thfd_24 : thFd 24 := ⟨fd_J10_7_24, fd_J10_17_24, fd_J10_24_24, fd_J10_31_24, fun _ _ hj => may4 rfl (by decide) hj, rfl, rfl, rfl, rfl⟩
theorem thfd_25 : thFd 25 := ⟨fd_J10_7_25, fd_J10_17_25, fd_J10_24_25, fd_J10_31_25, fun _ _ hj => may4 rfl (by decide) hj, rfl, rfl, rfl, rfl⟩
section ZEx
variable {y : MethodName} {cc : ByteArray} {nL : Nat} {ret : Option FieldType} {hh : List (Nat × Nat × Nat × Nat)} {d kc ks : Nat} {X : zX} {Q : zO → zH → Prop} {h : zH} {k n pc : Nat} {env : List (Nat × Value)} {st : List Value}
theorem z_getU (K : zK y cc nL ret hh d kc ks X) {idx nm : Nat} {C f g : String} (hq : (C, f, g, Value.ref nm) ∈ zst) (hl : Jvm.Cond.fieldLink y.cls idx C f g ∈ lw_all) (hn : (∃ c, h nm = some c) ∨ ∃ c, h (nm + 20) = some c) (dd : decode cc pc = .ok (.getstatic idx, 3)) (kk : zW X Q h k n (pc + 3) env (thV h nm :: st)) : zW X Q h k n pc env st := by
  cases e : h nm with
  | some c =>
    have e2 : thV h nm = .ref nm := by unfold thV; rw [e]
    rw [e2] at kk
    exact z_gets K hq hl e dd kk
  | none =>
    have e2 : thV h nm = .null := by unfold thV; rw [e]
    rw [e2] at kk
    obtain ⟨c, hc⟩ := hn.resolve_left (fun ⟨c, z⟩ => by rw [e] at z; cases z)
    exact z_getsN K hq hl hc dd kk
theorem zf_v {v : Value} (hv : zisr v = true) {C : String} : ∀ (r : zR) (w : Value), zv r v w → narrow (.object C) w = w ∧ fits (.object C) w = true := fun r w hz => by
  cases v with
  | ref a => exact zf_r r w hz
  | null => exact zf_n r w hz
  | _ => cases hv
theorem zf_va {v : Value} (hv : zisr v = true) {t : FieldType} : ∀ (r : zR) (w : Value), zv r v w → narrow (.array t) w = w ∧ fits (.array t) w = true := fun r w hz => by
  cases v with
  | ref a => exact zf_a r w hz
  | null => exact zf_na r w hz
  | _ => cases hv
end ZEx
section ZEy
variable {h : zH} {q ci : Nat} {C : String} {fs : List Value}
theorem Am.u3 (hA : Am h) : (∃ c, h 3 = some c) ∨ ∃ c, h (3 + 20) = some c := hA.2.2.1
theorem Am.u4 (hA : Am h) : (∃ c, h 4 = some c) ∨ ∃ c, h (4 + 20) = some c := hA.2.2.2.1
/-- a thrown thing's fields: its cause, its message is null -/
def thL (h : zH) (c : Value) (fs : List Value) : List Value := c :: thV h 3 :: thV h 4 :: .null :: .null :: fs
theorem thL_up {h : zH} {q : Nat} {x : zC} {c : Value} {fs : List Value} (h8 : 1000 ≤ q) : thL (zup h q x) c fs = thL h c fs := by unfold thL; rw [thV_up (by omega), thV_up (by omega)]
theorem fill1 {h' : zH} (hA : Am h) (e3 : ∀ n, n < 1000 → h' n = h n) (l : List Value) (hl : l[1]? = some (thV h 3)) : (∃ c0, h' 3 = some c0 ∧ l[1]? = some (.ref 3)) ∨ (∃ c0, h' 23 = some c0 ∧ l[1]? = some .null) := by
  rw [hl, e3 3 (by decide), e3 23 (by decide)]
  unfold thV
  cases e : h 3 with
  | some c => exact Or.inl ⟨c, rfl, rfl⟩
  | none =>
    right
    obtain ⟨c, hc⟩ := hA.u3.resolve_left (fun ⟨c, z⟩ => by rw [e] at z; cases z)
    exact ⟨c, hc, rfl⟩
theorem jt_init (th : zthr ci C) (tf : thFd ci) (hA : Am h) (hq : h q = some (.inr (ci, .null :: .null :: .null :: .null :: .null :: fs))) (h8 : 1000 ≤ q) : zMet yJ10_init (ws_ yJ10_init cJ10_init 1 none) 2 [.ref q] h (zVd (zup h q (.inr (ci, thL h (.ref q) fs)))) 0 0 := by
  obtain ⟨f7, f17, f24, f31, hm, t0, t1, t2, t3⟩ := tf
  have u3 : ∀ x : zC, (∃ c, zup h q x 3 = some c) ∨ ∃ c, zup h q x (3 + 20) = some c := fun x => by rw [zup_ne (by omega), zup_ne (by omega)]; exact hA.u3
  have u4 : ∀ x : zC, (∃ c, zup h q x 4 = some c) ∨ ∃ c, zup h q x (4 + 20) = some c := fun x => by rw [zup_ne (by omega), zup_ne (by omega)]; exact hA.u4
  refine zMet.of (by decide) (Nat.le_of_ble_eq_true rfl) fun X K => ?_
  refine z_aload_n K dJ10_init_0 rfl rfl rfl ?_
  refine z_objInit K q709 (by omega) (Nat.le_of_ble_eq_true rfl) dJ10_init_1 ?_
  refine z_aload_n K dJ10_init_4 rfl rfl rfl ?_
  refine z_aload_n K dJ10_init_5 rfl rfl rfl ?_
  refine z_putE K f7 (hm _ _ (by omega)) hq h8 (Nat.le_of_ble_eq_true rfl) (by rw [t0]; exact zf_r) dJ10_init_6 rfl ?_
  refine z_aload_n K dJ10_init_9 rfl rfl rfl ?_
  refine z_getU K zst_1 q710 (u3 _) dJ10_init_10 ?_
  rw [thV_up (by omega)]
  refine z_putE K f17 (hm _ _ (by omega)) (zup_at _ _ _) h8 (Nat.le_of_ble_eq_true rfl) (by rw [t1]; exact zf_va thV_r) dJ10_init_13 zup_zup ?_
  refine z_aload_n K dJ10_init_16 rfl rfl rfl ?_
  refine z_getU K zst_2 q712 (u4 _) dJ10_init_17 ?_
  rw [thV_up (by omega)]
  refine z_putE K f24 (hm _ _ (by omega)) (zup_at _ _ _) h8 (Nat.le_of_ble_eq_true rfl) (by rw [t2]; exact zf_v thV_r) dJ10_init_20 zup_zup ?_
  refine z_aload_n K dJ10_init_23 rfl rfl rfl ?_
  refine z_fill K rfl th (zup_at _ _ _) h8 rfl (fill1 hA (fun n hn => zup_ne (by omega)) _ rfl) (by omega) (Nat.le_of_ble_eq_true rfl) dJ10_init_24 ?_
  refine z_pop K dJ10_init_27 rfl ?_
  exact z_vret K (by omega) (by omega) ⟨rfl, rfl⟩ dJ10_init_28
theorem jt_init3 {c : Value} (hc : zisr c = true) (th : zthr ci C) (tf : thFd ci) (hA : Am h) (hq : h q = some (.inr (ci, .null :: .null :: .null :: .null :: .null :: fs))) (h8 : 1000 ≤ q) : zMet yJ10_init_3 (ws_ yJ10_init_3 cJ10_init_3 3 none) 2 [.ref q, .null, c] h (zVd (zup h q (.inr (ci, thL h c fs)))) 0 0 := by
  obtain ⟨f7, f17, f24, f31, hm, t0, t1, t2, t3⟩ := tf
  have u3 : ∀ x : zC, (∃ c, zup h q x 3 = some c) ∨ ∃ c, zup h q x (3 + 20) = some c := fun x => by rw [zup_ne (by omega), zup_ne (by omega)]; exact hA.u3
  have u4 : ∀ x : zC, (∃ c, zup h q x 4 = some c) ∨ ∃ c, zup h q x (4 + 20) = some c := fun x => by rw [zup_ne (by omega), zup_ne (by omega)]; exact hA.u4
  have hsl : ([Value.ref q, .null, c] : List Value).length = 3 := rfl
  have hc1 : c.category = 1 := by cases c <;> first | rfl | cases hc
  have hsz : (lg_sl [.ref q, .null, c]).length ≤ 3 := by
    cases c with
    | ref b => exact Nat.le_of_ble_eq_true rfl
    | null => exact Nat.le_of_ble_eq_true rfl
    | _ => cases hc
  refine zMet.of (by decide) hsz fun X K => ?_
  have e : lv_args 0 [.ref q, .null, c] = [(0, .ref q), (1, .null), (2, c)] := by
    cases c with
    | ref b => rfl
    | null => rfl
    | _ => cases hc
  rw [e]
  refine z_aload_n K dJ10_init_3_0 rfl rfl rfl ?_
  refine z_objInit K q709 (by omega) (Nat.le_of_ble_eq_true rfl) dJ10_init_3_1 ?_
  refine z_aload_n K dJ10_init_3_4 rfl rfl rfl ?_
  refine z_aload_n K dJ10_init_3_5 rfl rfl rfl ?_
  refine z_putE K f7 (hm _ _ (by omega)) hq h8 (Nat.le_of_ble_eq_true rfl) (by rw [t0]; exact zf_r) dJ10_init_3_6 rfl ?_
  refine z_aload_n K dJ10_init_3_9 rfl rfl rfl ?_
  refine z_getU K zst_1 q710 (u3 _) dJ10_init_3_10 ?_
  rw [thV_up (by omega)]
  refine z_putE K f17 (hm _ _ (by omega)) (zup_at _ _ _) h8 (Nat.le_of_ble_eq_true rfl) (by rw [t1]; exact zf_va thV_r) dJ10_init_3_13 zup_zup ?_
  refine z_aload_n K dJ10_init_3_16 rfl rfl rfl ?_
  refine z_getU K zst_2 q712 (u4 _) dJ10_init_3_17 ?_
  rw [thV_up (by omega)]
  refine z_putE K f24 (hm _ _ (by omega)) (zup_at _ _ _) h8 (Nat.le_of_ble_eq_true rfl) (by rw [t2]; exact zf_v thV_r) dJ10_init_3_20 zup_zup ?_
  refine z_aload_n K dJ10_init_3_23 rfl rfl rfl ?_
  refine z_fill K rfl th (zup_at _ _ _) h8 rfl (fill1 hA (fun n hn => zup_ne (by omega)) _ rfl) (by omega) (Nat.le_of_ble_eq_true rfl) dJ10_init_3_24 ?_
  refine z_pop K dJ10_init_3_27 rfl ?_
  refine z_aload_n K dJ10_init_3_28 rfl rfl rfl ?_
  refine z_aload_n K dJ10_init_3_29 rfl rfl rfl ?_
  refine z_putE K f31 (hm _ _ (by omega)) (zup_at _ _ _) h8 (Nat.le_of_ble_eq_true rfl) (by rw [t3]; exact zf_n) dJ10_init_3_30 zup_zup ?_
  refine z_aload_n K dJ10_init_3_33 rfl rfl rfl ?_
  refine z_aload_n K dJ10_init_3_34 rfl rfl hc ?_
  refine z_putE K f7 (hm _ _ (by omega)) (zup_at _ _ _) h8 (Nat.le_of_ble_eq_true rfl) (by rw [t0]; exact zf_v hc) dJ10_init_3_35 zup_zup ?_
  exact z_vret K (by omega) (by omega) ⟨rfl, rfl⟩ dJ10_init_3_38
end ZEy
