/-! ===== the component: orders, in any heap ===== -/
abbrev oO (r : Nat) (n : Int) : zC := .inr (3, [.ref r, .int (iI n)])
/-- two neighbours change their places -/
def exF (f : Nat → Int) (p : Nat) : Nat → Int := sup (sup f p (f (p + 1))) (p + 1) (f p)
def swF (f : Nat → Int) (p q : Nat) : Nat → Int := sup (sup f p (f q)) q (f p)
def upF (f : Nat → Int) (a : Nat) : Nat → Nat → Int
  | 0 => f
  | n + 1 => exF (upF f a n) (a + n)
def dnF (f : Nat → Int) (a : Nat) : Nat → Nat → Int
  | 0 => f
  | n + 1 => exF (dnF f a n) (a - n - 1)
theorem sup_sup {f : Nat → Int} {k : Nat} {v w : Int} : sup (sup f k v) k w = sup f k w := by
  funext i
  by_cases e : i = k
  · rw [e, sup_s, sup_s]
  · rw [sup_n e, sup_n e, sup_n e]
theorem sup_comm {f : Nat → Int} {k l : Nat} {v w : Int} (h : k ≠ l) : sup (sup f k v) l w = sup (sup f l w) k v := by
  funext i
  by_cases e : i = l
  · subst e; rw [sup_s, sup_n (Ne.symm h), sup_s]
  · rw [sup_n e]
    by_cases e2 : i = k
    · subst e2; rw [sup_s, sup_s]
    · rw [sup_n e2, sup_n e2, sup_n e]
/-- in range -/
def rI (f : Nat → Int) : Prop := ∀ p : Nat, p < 5 → -2147483648 ≤ f p ∧ f p ≤ 2147483647
section XOr
variable {h : zH} {o r : Nat} {n : Int} {f : Nat → Int}
theorem zup2 {c1 c2 c3 : zC} (hne : o ≠ r) : zup (zup (zup h r c1) o c2) r c3 = zup (zup h r c3) o c2 := by rw [zup_comm hne, zup_zup]
theorem x3_init (ho : h o = some (.inr (3, [.null, .int 0]))) (hr : h r = none) (h8 : 1000 ≤ o) (r8 : 1000 ≤ r) : zMet yX3_init (ws_ yX3_init cX3_init 1 none) 2 [.ref o] h (zVd (zup (zup h r (aI 5 (fun _ => 0))) o (oO r 0))) 1 5 := by
  have hne : o ≠ r := fun e => by rw [e, hr] at ho; cases ho
  refine zMet.of (by decide) (Nat.le_of_ble_eq_true rfl) fun X K => ?_
  refine z_aload_n K dX3_init_0 rfl rfl rfl ?_
  refine z_objInit K q251 (by omega) (Nat.le_of_ble_eq_true rfl) dX3_init_1 ?_
  refine z_aload_n K dX3_init_4 rfl rfl rfl ?_
  refine j_iconst K dX3_init_5 ?_
  refine z_newi K (r) (by omega) (by omega) hr (by omega) (by omega) (by omega) dX3_init_6 ?_
  rw [show (5 : Int).toNat = 5 from rfl, aI_zero]
  refine z_putE K fd_X3_9_3 (by first | exact ⟨_, rfl, Or.inl rfl⟩ | exact ⟨_, rfl, Or.inr ⟨rfl, rfl, rfl⟩⟩) ((zup_ne hne).trans ho) (by omega) (Nat.le_of_ble_eq_true rfl) (zf_a) dX3_init_8 (rfl) ?_
  exact z_vret K (by omega) (by omega) (⟨rfl, rfl⟩) dX3_init_11
theorem x3_add {v : Int} (ho : h o = some (oO r n)) (hr : h r = some (aI 5 f)) (hn : 0 ≤ n ∧ n < 5) (h8 : 1000 ≤ o) (r8 : 1000 ≤ r) : zMet yX3_add (ws_ yX3_add cX3_add 2 none) 1 [.ref o, .int (iI v)] h (zVd (zup (zup h r (aI 5 (sup f n.toNat v))) o (oO r (n + 1)))) 0 0 := by
  have hne : o ≠ r := fun e => by rw [e, hr] at ho; cases ho
  refine zMet.of (by decide) (Nat.le_of_ble_eq_true rfl) fun X K => ?_
  refine z_aload_n K dX3_add_0 rfl rfl rfl ?_
  refine z_get K fd_X3_9_3 ((by first | exact ho | exact (zup_ne hne).trans ho)) rfl dX3_add_1 ?_
  refine z_aload_n K dX3_add_4 rfl rfl rfl ?_
  refine z_get K fd_X3_15_3 ((by first | exact ho | exact (zup_ne hne).trans ho)) rfl dX3_add_5 ?_
  refine z_iload_n K dX3_add_8 rfl rfl ?_
  refine j_istE K (hr) (by omega) (by omega) (by omega) dX3_add_9 (rfl) ?_
  refine z_aload_n K dX3_add_10 rfl rfl rfl ?_
  refine z_dup K dX3_add_11 rfl ?_
  refine z_get K fd_X3_15_3 ((by first | exact ho | exact (zup_ne hne).trans ho)) rfl dX3_add_12 ?_
  refine j_iconst K dX3_add_15 ?_
  refine j_iadd K dX3_add_16 ?_
  refine z_putE K fd_X3_15_3 ⟨_, rfl, Or.inl rfl⟩ ((by first | exact ho | exact (zup_ne hne).trans ho)) (by omega) (Nat.le_of_ble_eq_true rfl) (zf_i) dX3_add_17 (rfl) ?_
  exact z_vret K (by omega) (by omega) (⟨rfl, rfl⟩) dX3_add_20
theorem x3_pos {v : Int} (ho : h o = some (oO r n)) (hr : h r = some (aI 5 f)) (hn : 0 ≤ n ∧ n ≤ 5) (hf : ∀ p : Nat, (p : Int) < n → -2147483648 ≤ f p ∧ f p ≤ 2147483647) (hv : -2147483648 ≤ v ∧ v ≤ 2147483647) : zMet yX3_positionOf (ws_ yX3_positionOf cX3_positionOf 3 (some .int)) 1 [.ref o, .int (iI v)] h (fun z h' => ∃ P : Nat, z = .inl (some (.int (iI P))) ∧ h' = h ∧ (P : Int) ≤ n ∧ (∀ q, q < P → f q ≠ v) ∧ ((P : Int) < n → f P = v)) 0 0 := by
  refine zMet.of (by decide) (Nat.le_of_ble_eq_true rfl) fun X K => ?_
  have loop : ∀ (q p : Nat), (p : Int) + q = n → (∀ i, i < p → f i ≠ v) → ∀ env, zsub env [(0, .ref o), (1, .int (iI v)), (2, .int (iI p))] → zW X (fun z h' => ∃ P : Nat, z = .inl (some (.int (iI P))) ∧ h' = h ∧ (P : Int) ≤ n ∧ (∀ q, q < P → f q ≠ v) ∧ ((P : Int) < n → f P = v)) h 0 0 2 env [] := by
    intro q
    induction q with
    | zero =>
      intro p hp hno env he
      refine zW.cut he ?_
      refine z_iload_n K dX3_positionOf_2 rfl rfl ?_
      refine z_aload_n K dX3_positionOf_3 rfl rfl rfl ?_
      refine z_get K fd_X3_15_3 (ho) rfl dX3_positionOf_4 ?_
      refine j_icmp_ge (tgt := 26) K dX3_positionOf_7 rfl (by omega) (by omega) (fun c_7 => ?_) (fun c_7 => ?_)
      · refine z_iload_n K dX3_positionOf_26 rfl rfl ?_
        exact z_iret K (by omega) (by omega) (⟨p, rfl, rfl, by omega, hno, fun z => by omega⟩) dX3_positionOf_27
      · exact absurd c_7 (by omega)
    | succ q ih =>
      intro p hp hno env he
      refine zW.cut he ?_
      have hfp := hf p (by omega)
      have nx := fun (hz : f p ≠ v) => ih (p + 1) (by omega) (fun i hi => by
        by_cases e : i = p
        · rw [e]; exact hz
        · exact hno i (by omega))
      refine z_iload_n K dX3_positionOf_2 rfl rfl ?_
      refine z_aload_n K dX3_positionOf_3 rfl rfl rfl ?_
      refine z_get K fd_X3_15_3 (ho) rfl dX3_positionOf_4 ?_
      refine j_icmp_ge (tgt := 26) K dX3_positionOf_7 rfl (by omega) (by omega) (fun c_7 => ?_) (fun c_7 => ?_)
      · exact absurd c_7 (by omega)
      · refine z_aload_n K dX3_positionOf_10 rfl rfl rfl ?_
        refine z_get K fd_X3_9_3 (ho) rfl dX3_positionOf_11 ?_
        refine z_iload_n K dX3_positionOf_14 rfl rfl ?_
        refine j_ild K (hr) (by omega) (by omega) dX3_positionOf_15 ?_
        rw [Int.toNat_natCast]
        refine z_iload_n K dX3_positionOf_16 rfl rfl ?_
        refine j_icmp_eq (tgt := 26) K dX3_positionOf_17 rfl (by omega) (by omega) (fun c_17 => ?_) (fun c_17 => ?_)
        · refine z_iload_n K dX3_positionOf_26 rfl rfl ?_
          exact z_iret K (by omega) (by omega) (⟨p, rfl, rfl, by omega, hno, fun z => c_17⟩) dX3_positionOf_27
        · refine j_iinc K dX3_positionOf_20 rfl (by decide) rfl ?_
          refine z_goto (tgt := 2) K dX3_positionOf_23 rfl ?_
          exact nx c_17 _ ⟨rfl, rfl, rfl, trivial⟩
  refine j_iconst K dX3_positionOf_0 ?_
  refine z_istore_n K dX3_positionOf_1 rfl (by decide) rfl ?_
  exact loop n.toNat 0 (by omega) (fun i hi => by omega) _ ⟨rfl, rfl, rfl, trivial⟩
theorem x3_swap {p : Nat} (ho : h o = some (oO r n)) (hr : h r = some (aI 5 f)) (hp : p + 1 < 5) (r8 : 1000 ≤ r) : zMet yX3_swap (ws_ yX3_swap cX3_swap 3 none) 1 [.ref o, .int (iI p)] h (zVd (zup h r (aI 5 (exF f p)))) 0 0 := by
  have hne : o ≠ r := fun e => by rw [e, hr] at ho; cases ho
  refine zMet.of (by decide) (Nat.le_of_ble_eq_true rfl) fun X K => ?_
  refine z_aload_n K dX3_swap_0 rfl rfl rfl ?_
  refine z_get K fd_X3_9_3 ((by first | exact ho | exact (zup_ne hne).trans ho)) rfl dX3_swap_1 ?_
  refine z_iload_n K dX3_swap_4 rfl rfl ?_
  refine j_ild K ((by first | exact hr | exact zup_at _ _ _)) (by omega) (by omega) dX3_swap_5 ?_
  refine z_istore_n K dX3_swap_6 rfl (by decide) rfl ?_
  refine z_aload_n K dX3_swap_7 rfl rfl rfl ?_
  refine z_get K fd_X3_9_3 ((by first | exact ho | exact (zup_ne hne).trans ho)) rfl dX3_swap_8 ?_
  refine z_iload_n K dX3_swap_11 rfl rfl ?_
  refine z_aload_n K dX3_swap_12 rfl rfl rfl ?_
  refine z_get K fd_X3_9_3 ((by first | exact ho | exact (zup_ne hne).trans ho)) rfl dX3_swap_13 ?_
  refine z_iload_n K dX3_swap_16 rfl rfl ?_
  refine j_iconst K dX3_swap_17 ?_
  refine j_iadd K dX3_swap_18 ?_
  refine j_ild K ((by first | exact hr | exact zup_at _ _ _)) (by omega) (by omega) dX3_swap_19 ?_
  refine j_istE K ((by first | exact hr | exact zup_at _ _ _)) (by omega) (by omega) (by omega) dX3_swap_20 (rfl) ?_
  refine z_aload_n K dX3_swap_21 rfl rfl rfl ?_
  refine z_get K fd_X3_9_3 ((by first | exact ho | exact (zup_ne hne).trans ho)) rfl dX3_swap_22 ?_
  refine z_iload_n K dX3_swap_25 rfl rfl ?_
  refine j_iconst K dX3_swap_26 ?_
  refine j_iadd K dX3_swap_27 ?_
  refine z_iload_n K dX3_swap_28 rfl rfl ?_
  refine j_istE K ((by first | exact hr | exact zup_at _ _ _)) (by omega) (by omega) (by omega) dX3_swap_29 (zup_zup) ?_
  exact z_vret K (by omega) (by omega) (⟨rfl, by unfold exF; rw [show ((p : Int) + 1).toNat = p + 1 by omega, Int.toNat_natCast]⟩) dX3_swap_30
theorem x3_take {o2 r2 : Nat} {n2 : Int} {f2 : Nat → Int} (ho : h o = some (oO r n)) (hr : h r = some (aI 5 f)) (ho2 : h o2 = some (oO r2 n2)) (hr2 : h r2 = some (aI 5 f2)) (h8 : 1000 ≤ o) (r8 : 1000 ≤ r) : zMet yX3_take (ws_ yX3_take cX3_take 2 none) 2 [.ref o, .ref o2] h (zVd (zup (zup h r (aI 5 f2)) o (oO r n2))) 0 0 := by
  have hne : o ≠ r := fun e => by rw [e, hr] at ho; cases ho
  have hne2 : o2 ≠ r := fun e => by rw [e, hr] at ho2; cases ho2
  have hcp : (.inl (0, 5, .inl (va_cpy (fun i => if i < 5 then iI (f2 i) else 0) (fun i => if i < 5 then iI (f i) else 0) (iI 0).toNatClampNeg (iI 0).toNatClampNeg (iI 5).toNatClampNeg)) : zC) = aI 5 f2 := by
    rw [show (iI 0).toNatClampNeg = 0 from by decide +kernel, show (iI 5).toNatClampNeg = 5 from by decide +kernel]
    unfold aI
    congr 4
    funext j
    by_cases hj : j < 5
    · rw [pk_cpy_in (by omega) (by omega), show 0 + (j - 0) = j by omega]
    · rw [pk_cpy_out (by omega), if_neg hj, if_neg hj]
  refine zMet.of (by decide) (Nat.le_of_ble_eq_true rfl) fun X K => ?_
  refine z_aload_n K dX3_take_0 rfl rfl rfl ?_
  refine z_get K fd_X3_9_3 ((by first | exact ho2 | exact (zup_ne hne2).trans ho2)) rfl dX3_take_1 ?_
  refine j_iconst K dX3_take_4 ?_
  refine z_aload_n K dX3_take_5 rfl rfl rfl ?_
  refine z_get K fd_X3_9_3 ((by first | exact ho | exact (zup_ne hne).trans ho)) rfl dX3_take_6 ?_
  refine j_iconst K dX3_take_9 ?_
  refine j_iconst K dX3_take_10 ?_
  refine z_copyi K (N0 := 5) (N1 := 5) hr2 hr r8 q506 (by decide +kernel) (by decide +kernel) (by decide +kernel) (by decide +kernel) (by decide +kernel) (by omega) (Nat.le_of_ble_eq_true rfl) dX3_take_11 ?_
  rw [hcp]
  refine z_aload_n K dX3_take_14 rfl rfl rfl ?_
  refine z_aload_n K dX3_take_15 rfl rfl rfl ?_
  refine z_get K fd_X3_15_3 ((by first | exact ho2 | exact (zup_ne hne2).trans ho2)) rfl dX3_take_16 ?_
  refine z_putE K fd_X3_15_3 ⟨_, rfl, Or.inl rfl⟩ ((by first | exact ho | exact (zup_ne hne).trans ho)) (by omega) (Nat.le_of_ble_eq_true rfl) (zf_i) dX3_take_19 (rfl) ?_
  exact z_vret K (by omega) (by omega) (⟨rfl, rfl⟩) dX3_take_22
/-- how many of the first n differ -/
def dfF (f f2 : Nat → Int) : Nat → Int
  | 0 => 0
  | n + 1 => dfF f f2 n + if f n ≠ f2 n then 1 else 0
theorem dfF_r (f f2 : Nat → Int) : ∀ n : Nat, 0 ≤ dfF f f2 n ∧ dfF f f2 n ≤ n
  | 0 => by simp [dfF]
  | n + 1 => by
    have := dfF_r f f2 n
    unfold dfF
    split <;> omega
theorem x3_diff {o2 r2 : Nat} {n2 : Int} {f2 : Nat → Int} (ho : h o = some (oO r n)) (hr : h r = some (aI 5 f)) (ho2 : h o2 = some (oO r2 n2)) (hr2 : h r2 = some (aI 5 f2)) (hn : 0 ≤ n ∧ n ≤ 5) (hf : ∀ p : Nat, (p : Int) < n → -2147483648 ≤ f p ∧ f p ≤ 2147483647) (hf2 : ∀ p : Nat, (p : Int) < n → -2147483648 ≤ f2 p ∧ f2 p ≤ 2147483647) : zMet yX3_differences (ws_ yX3_differences cX3_differences 4 (some .int)) 1 [.ref o, .ref o2] h (zRet (.int (iI (dfF f f2 n.toNat))) h) 0 0 := by
  refine zMet.of (by decide) (Nat.le_of_ble_eq_true rfl) fun X K => ?_
  have loop : ∀ (q p : Nat), (p : Int) + q = n → ∀ env, zsub env [(0, .ref o), (1, .ref o2), (2, .int (iI (dfF f f2 p))), (3, .int (iI p))] → zW X (zRet (.int (iI (dfF f f2 n.toNat))) h) h 0 0 4 env [] := by
    intro q
    induction q with
    | zero =>
      intro p hp env he
      refine zW.cut he ?_
      refine z_iload_n K dX3_differences_4 rfl rfl ?_
      refine z_aload_n K dX3_differences_5 rfl rfl rfl ?_
      refine z_get K fd_X3_15_3 (ho) rfl dX3_differences_6 ?_
      refine j_icmp_ge (tgt := 36) K dX3_differences_9 rfl (by omega) (by omega) (fun c_9 => ?_) (fun c_9 => ?_)
      · refine z_iload_n K dX3_differences_36 rfl rfl ?_
        exact z_iret K (by omega) (by omega) (⟨by rw [show n.toNat = p by omega], rfl⟩) dX3_differences_37
      · exact absurd c_9 (by omega)
    | succ q ih =>
      intro p hp env he
      refine zW.cut he ?_
      have z1 := hf p (by omega)
      have z2 := hf2 p (by omega)
      have nx := ih (p + 1) (by omega)
      refine z_iload_n K dX3_differences_4 rfl rfl ?_
      refine z_aload_n K dX3_differences_5 rfl rfl rfl ?_
      refine z_get K fd_X3_15_3 (ho) rfl dX3_differences_6 ?_
      refine j_icmp_ge (tgt := 36) K dX3_differences_9 rfl (by omega) (by omega) (fun c_9 => ?_) (fun c_9 => ?_)
      · exact absurd c_9 (by omega)
      · refine z_aload_n K dX3_differences_12 rfl rfl rfl ?_
        refine z_get K fd_X3_9_3 (ho) rfl dX3_differences_13 ?_
        refine z_iload_n K dX3_differences_16 rfl rfl ?_
        refine j_ild K (hr) (by omega) (by omega) dX3_differences_17 ?_
        rw [Int.toNat_natCast]
        refine z_aload_n K dX3_differences_18 rfl rfl rfl ?_
        refine z_get K fd_X3_9_3 (ho2) rfl dX3_differences_19 ?_
        refine z_iload_n K dX3_differences_22 rfl rfl ?_
        refine j_ild K (hr2) (by omega) (by omega) dX3_differences_23 ?_
        rw [Int.toNat_natCast]
        refine j_icmp_eq (tgt := 30) K dX3_differences_24 rfl (by omega) (by omega) (fun c_24 => ?_) (fun c_24 => ?_)
        · refine j_iinc K dX3_differences_30 rfl (by decide) rfl ?_
          refine z_goto (tgt := 4) K dX3_differences_33 rfl ?_
          first | (rw [show dfF f f2 (p + 1) = dfF f f2 p + 1 from (show dfF f f2 p + (if f p ≠ f2 p then 1 else 0) = _ by rw [if_pos c_24])] at nx; exact nx _ ⟨rfl, rfl, rfl, rfl, trivial⟩) | (rw [show dfF f f2 (p + 1) = dfF f f2 p from (show dfF f f2 p + (if f p ≠ f2 p then 1 else 0) = _ by rw [if_neg (fun z => z c_24), Int.add_zero])] at nx; exact nx _ ⟨rfl, rfl, rfl, rfl, trivial⟩)
        · refine j_iinc K dX3_differences_27 rfl (by decide) rfl ?_
          refine j_iinc K dX3_differences_30 rfl (by decide) rfl ?_
          refine z_goto (tgt := 4) K dX3_differences_33 rfl ?_
          first | (rw [show dfF f f2 (p + 1) = dfF f f2 p + 1 from (show dfF f f2 p + (if f p ≠ f2 p then 1 else 0) = _ by rw [if_pos c_24])] at nx; exact nx _ ⟨rfl, rfl, rfl, rfl, trivial⟩) | (rw [show dfF f f2 (p + 1) = dfF f f2 p from (show dfF f f2 p + (if f p ≠ f2 p then 1 else 0) = _ by rw [if_neg (fun z => z c_24), Int.add_zero])] at nx; exact nx _ ⟨rfl, rfl, rfl, rfl, trivial⟩)
  refine j_iconst K dX3_differences_0 ?_
  refine z_istore_n K dX3_differences_1 rfl (by decide) rfl ?_
  refine j_iconst K dX3_differences_2 ?_
  refine z_istore_n K dX3_differences_3 rfl (by decide) rfl ?_
  exact loop n.toNat 0 (by omega) _ ⟨rfl, rfl, rfl, rfl, trivial⟩
end XOr

