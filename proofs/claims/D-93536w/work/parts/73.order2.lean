/-! ===== the component: moving, sorting, advancing an order ===== -/
theorem sup3 {f : Nat → Int} {k l : Nat} {v w x : Int} (h : k ≠ l) : sup (sup (sup f k v) l w) k x = sup (sup f k x) l w := by rw [sup_comm (Ne.symm h), sup_sup]
section XOs
variable {h : zH} {o r : Nat} {n : Int} {f : Nat → Int}
theorem x3_move {a c : Nat} (ho : h o = some (oO r n)) (hr : h r = some (aI 5 f)) (ha : a < 5) (hc : c < 5) (r8 : 1000 ≤ r) : zMet yX3_move (ws_ yX3_move cX3_move 5 none) 1 [.ref o, .int (iI a), .int (iI c)] h (zVd (zup h r (aI 5 (dnF (upF f a (c - a)) a (a - c))))) 0 0 := by
  have hne : o ≠ r := fun e => by rw [e, hr] at ho; cases ho
  refine zMet.of (by decide) (Nat.le_of_ble_eq_true rfl) fun X K => ?_
  have ho' : ∀ x, zup h r x o = some (oO r n) := fun x => (zup_ne hne).trans ho
  -- the end: the one goes to its place
  have fin : ∀ (q : Nat → Int) (p : Int), p ≤ c → ∀ env, zsub env [(0, .ref o), (2, .int (iI c)), (3, .int (iI (f a))), (4, .int (iI p))] → p < 5 → -5 ≤ p → zW X (zVd (zup h r (aI 5 (sup q c (f a))))) (zup h r (aI 5 q)) 0 0 41 env [] := by
    intro q p hp env he h5 h0
    refine zW.cut he ?_
    refine z_iload K dX3_move_41 rfl ?_
    refine z_iload_n K dX3_move_43 rfl rfl ?_
    refine j_icmp_le (tgt := 69) K dX3_move_44 rfl (by omega) (by omega) (fun c_44 => ?_) (fun c_44 => ?_)
    · refine z_aload_n K dX3_move_69 rfl rfl rfl ?_
      refine z_get K fd_X3_9_3 (ho' _) rfl dX3_move_70 ?_
      refine z_iload_n K dX3_move_73 rfl rfl ?_
      refine z_iload_n K dX3_move_74 rfl rfl ?_
      refine j_istE K (zup_at _ _ _) (by omega) (by omega) (by omega) dX3_move_75 (zup_zup) ?_
      exact z_vret K (by omega) (by omega) (⟨rfl, by rw [Int.toNat_natCast]⟩) dX3_move_76
    · exact absurd c_44 (by omega)
  -- down
  have dn : ∀ (m i : Nat) (q : Nat → Int), i + m + c = a → sup q (a - i) (f a) = dnF f a i → ∀ env, zsub env [(0, .ref o), (2, .int (iI c)), (3, .int (iI (f a))), (4, .int (iI ((a - i : Nat) : Int)))] → zW X (zVd (zup h r (aI 5 (dnF f a (a - c))))) (zup h r (aI 5 q)) 0 0 41 env [] := by
    intro m
    induction m with
    | zero =>
      intro i q hi hq env he
      have h9 := fin q ((a - i : Nat) : Int) (by omega) env he (by omega) (by omega)
      rw [show c = a - i by omega, hq, show i = a - c by omega] at h9
      exact h9
    | succ m ih =>
      intro i q hi hq env he
      refine zW.cut he ?_
      have nx := ih (i + 1) (sup q (a - i) (q (a - i - 1))) (by omega) (by
        show _ = exF (dnF f a i) (a - i - 1)
        rw [← hq]
        unfold exF
        rw [show a - i - 1 + 1 = a - i by omega, sup_s, sup_n (show a - i - 1 ≠ a - i by omega), show a - (i + 1) = a - i - 1 by omega]
        rw [sup3 (show a - i ≠ a - i - 1 by omega)])
      refine z_iload K dX3_move_41 rfl ?_
      refine z_iload_n K dX3_move_43 rfl rfl ?_
      refine j_icmp_le (tgt := 69) K dX3_move_44 rfl (by omega) (by omega) (fun c_44 => ?_) (fun c_44 => ?_)
      · exact absurd c_44 (by omega)
      · refine z_aload_n K dX3_move_47 rfl rfl rfl ?_
        refine z_get K fd_X3_9_3 (ho' _) rfl dX3_move_48 ?_
        refine z_iload K dX3_move_51 rfl ?_
        refine z_aload_n K dX3_move_53 rfl rfl rfl ?_
        refine z_get K fd_X3_9_3 (ho' _) rfl dX3_move_54 ?_
        refine z_iload K dX3_move_57 rfl ?_
        refine j_iconst K dX3_move_59 ?_
        refine j_isub K dX3_move_60 ?_
        refine j_ild K (zup_at _ _ _) (by omega) (by omega) dX3_move_61 ?_
        refine j_istE K (zup_at _ _ _) (by omega) (by omega) (by omega) dX3_move_62 (zup_zup) ?_
        rw [Int.toNat_natCast, show (((a - i : Nat) : Int) - 1).toNat = a - i - 1 by omega]
        refine j_iinc K dX3_move_63 rfl (by decide) rfl ?_
        refine z_goto (tgt := 41) K dX3_move_66 rfl ?_
        exact nx _ ⟨rfl, rfl, rfl, by rw [show ((a - (i + 1) : Nat) : Int) = ((a - i : Nat) : Int) + -1 by omega]; rfl, trivial⟩
  -- up
  have up : ∀ (m i : Nat) (q : Nat → Int), a + i + m = c → sup q (a + i) (f a) = upF f a i → ∀ env, zsub env [(0, .ref o), (1, .int (iI a)), (2, .int (iI c)), (3, .int (iI (f a))), (4, .int (iI ((a + i : Nat) : Int)))] → zW X (zVd (zup h r (aI 5 (upF f a (c - a))))) (zup h r (aI 5 q)) 0 0 10 env [] := by
    intro m
    induction m with
    | zero =>
      intro i q hi hq env he
      refine zW.cut he ?_
      have h9 := fin q (a : Int) (by omega)
      rw [show c = a + i by omega, hq, show i = (a + i) - a by omega] at h9
      rw [show a + (a + i - a) = a + i by omega] at h9
      have hci : c = a + i := by omega
      subst hci
      refine z_iload K dX3_move_10 rfl ?_
      refine z_iload_n K dX3_move_12 rfl rfl ?_
      refine j_icmp_ge (tgt := 38) K dX3_move_13 rfl (by omega) (by omega) (fun c_13 => ?_) (fun c_13 => ?_)
      · refine z_iload_n K dX3_move_38 rfl rfl ?_
        refine z_istore K dX3_move_39 (by decide) rfl ?_
        exact h9 _ ⟨rfl, rfl, rfl, rfl, trivial⟩ (by omega) (by omega)
      · exact absurd c_13 (by omega)
    | succ m ih =>
      intro i q hi hq env he
      refine zW.cut he ?_
      have nx := ih (i + 1) (sup q (a + i) (q (a + i + 1))) (by omega) (by
        show _ = exF (upF f a i) (a + i)
        rw [← hq]
        unfold exF
        rw [sup_s, sup_n (show a + i + 1 ≠ a + i by omega), sup_sup]
        rfl)
      refine z_iload K dX3_move_10 rfl ?_
      refine z_iload_n K dX3_move_12 rfl rfl ?_
      refine j_icmp_ge (tgt := 38) K dX3_move_13 rfl (by omega) (by omega) (fun c_13 => ?_) (fun c_13 => ?_)
      · exact absurd c_13 (by omega)
      · refine z_aload_n K dX3_move_16 rfl rfl rfl ?_
        refine z_get K fd_X3_9_3 (ho' _) rfl dX3_move_17 ?_
        refine z_iload K dX3_move_20 rfl ?_
        refine z_aload_n K dX3_move_22 rfl rfl rfl ?_
        refine z_get K fd_X3_9_3 (ho' _) rfl dX3_move_23 ?_
        refine z_iload K dX3_move_26 rfl ?_
        refine j_iconst K dX3_move_28 ?_
        refine j_iadd K dX3_move_29 ?_
        refine j_ild K (zup_at _ _ _) (by omega) (by omega) dX3_move_30 ?_
        refine j_istE K (zup_at _ _ _) (by omega) (by omega) (by omega) dX3_move_31 (zup_zup) ?_
        rw [Int.toNat_natCast, show (((a + i : Nat) : Int) + 1).toNat = a + i + 1 by omega]
        refine j_iinc K dX3_move_32 rfl (by decide) rfl ?_
        refine z_goto (tgt := 10) K dX3_move_35 rfl ?_
        exact nx _ ⟨rfl, rfl, rfl, rfl, rfl, trivial⟩
  have hself : zup h r (aI 5 f) = h := zup_self hr
  have hfa : sup f a (f a) = f := by funext i; by_cases e : i = a; (rw [e, sup_s]); (rw [sup_n e])
  have go10 : ∀ env, zsub env [(0, .ref o), (1, .int (iI a)), (2, .int (iI c)), (3, .int (iI (f a))), (4, .int (iI (a : Int)))] → zW X (zVd (zup h r (aI 5 (dnF (upF f a (c - a)) a (a - c))))) h 0 0 10 env [] := by
    intro env he
    by_cases hac : a ≤ c
    · have h9 := up (c - a) 0 f (by omega) hfa env he
      rw [hself] at h9
      rw [show a - c = 0 by omega]
      exact h9
    · refine zW.cut he ?_
      have h9 := dn (a - c) 0 f (by omega) hfa
      rw [hself] at h9
      rw [show c - a = 0 by omega]
      refine z_iload K dX3_move_10 rfl ?_
      refine z_iload_n K dX3_move_12 rfl rfl ?_
      refine j_icmp_ge (tgt := 38) K dX3_move_13 rfl (by omega) (by omega) (fun c_13 => ?_) (fun c_13 => ?_)
      · refine z_iload_n K dX3_move_38 rfl rfl ?_
        refine z_istore K dX3_move_39 (by decide) rfl ?_
        exact h9 _ ⟨rfl, rfl, rfl, rfl, trivial⟩
      · exact absurd c_13 (by omega)
  refine z_aload_n K dX3_move_0 rfl rfl rfl ?_
  refine z_get K fd_X3_9_3 (ho) rfl dX3_move_1 ?_
  refine z_iload_n K dX3_move_4 rfl rfl ?_
  refine j_ild K (hr) (by omega) (by omega) dX3_move_5 ?_
  rw [Int.toNat_natCast]
  refine z_istore_n K dX3_move_6 rfl (by decide) rfl ?_
  refine z_iload_n K dX3_move_7 rfl rfl ?_
  refine z_istore K dX3_move_8 (by decide) rfl ?_
  exact go10 _ ⟨rfl, rfl, rfl, rfl, rfl, trivial⟩
/-- sorting: by changes of neighbours -/
theorem x3_sort {P : (Nat → Int) → Prop} {n : Nat} (ho : h o = some (oO r n)) (hr : h r = some (aI 5 f)) (hn : n ≤ 5) (r8 : 1000 ≤ r) (hP : P f) (hPx : ∀ f p, P f → p + 1 < n → P (exF f p)) (hPr : ∀ f, P f → ∀ p, p < n → -2147483648 ≤ f p ∧ f p ≤ 2147483647) : zMet yX3_sort (ws_ yX3_sort cX3_sort 3 none) 2 [.ref o] h (fun z h' => ∃ f', z = .inl none ∧ h' = zup h r (aI 5 f') ∧ P f' ∧ (∀ i j, i < j → j < n → f' i ≤ f' j) ∧ ∀ i, n ≤ i → f' i = f i) 0 0 := by
  have hne : o ≠ r := fun e => by rw [e, hr] at ho; cases ho
  have ho' : ∀ x, zup h r x o = some (oO r n) := fun x => (zup_ne hne).trans ho
  refine zMet.of (by decide) (Nat.le_of_ble_eq_true rfl) fun X K => ?_
  have lk : ∀ (m k : Nat) (q : Nat → Int), 1 ≤ k → k + m = max 1 n → P q → (∀ i j, i < j → j < k → q i ≤ q j) → (∀ i, n ≤ i → q i = f i) → ∀ env, zsub env [(0, .ref o), (1, .int (iI k))] → zW X (fun z h' => ∃ f', z = .inl none ∧ h' = zup h r (aI 5 f') ∧ P f' ∧ (∀ i j, i < j → j < n → f' i ≤ f' j) ∧ ∀ i, n ≤ i → f' i = f i) (zup h r (aI 5 q)) 0 0 2 env [] := by
    intro m
    induction m with
    | zero =>
      intro k q k1 hk hq hs ht env he
      refine zW.cut he ?_
      refine z_iload_n K dX3_sort_2 rfl rfl ?_
      refine z_aload_n K dX3_sort_3 rfl rfl rfl ?_
      refine z_get K fd_X3_15_3 (ho' _) rfl dX3_sort_4 ?_
      refine j_icmp_ge (tgt := 52) K dX3_sort_7 rfl (by omega) (by omega) (fun c_7 => ?_) (fun c_7 => ?_)
      · exact z_vret K (by omega) (by omega) (⟨q, rfl, rfl, hq, fun i j hij hj => hs i j hij (by omega), ht⟩) dX3_sort_52
      · exact absurd c_7 (by omega)
    | succ m ih =>
      intro k q k1 hk hq hs ht env he
      refine zW.cut he ?_
      have lp : ∀ (p : Nat) (q : Nat → Int), p ≤ k → P q → (∀ i j, i < j → j ≤ k → i ≠ p → j ≠ p → q i ≤ q j) → (∀ j, p < j → j ≤ k → q p ≤ q j) → (∀ i, n ≤ i → q i = f i) → ∀ env, zsub env [(0, .ref o), (1, .int (iI k)), (2, .int (iI p))] → zW X (fun z h' => ∃ f', z = .inl none ∧ h' = zup h r (aI 5 f') ∧ P f' ∧ (∀ i j, i < j → j < n → f' i ≤ f' j) ∧ ∀ i, n ≤ i → f' i = f i) (zup h r (aI 5 q)) 0 0 12 env [] := by
        intro p
        induction p with
        | zero =>
          intro q hp hq hs1 hs2 ht env he
          refine zW.cut he ?_
          have nx := ih (k + 1) q (by omega) (by omega) hq (fun i j hij hj => by
            by_cases e : i = 0
            · rw [e]; exact hs2 j (by omega) (by omega)
            · exact hs1 i j hij (by omega) e (by omega)) ht
          refine z_iload_n K dX3_sort_12 rfl rfl ?_
          refine j_if_le (tgt := 46) K dX3_sort_13 rfl (by omega) (fun c_13 => ?_) (fun c_13 => ?_)
          · refine j_iinc K dX3_sort_46 rfl (by decide) rfl ?_
            refine z_goto (tgt := 2) K dX3_sort_49 rfl ?_
            exact nx _ ⟨rfl, rfl, trivial⟩
          · exact absurd c_13 (by omega)
        | succ p ihp =>
          intro q hp hq hs1 hs2 ht env he
          refine zW.cut he ?_
          have z1 := hPr q hq p (by omega)
          have z2 := hPr q hq (p + 1) (by omega)
          have nx := fun (hz : q p ≤ q (p + 1)) => ih (k + 1) q (by omega) (by omega) hq (fun i j hij hj => by
            by_cases e : i = p + 1
            · rw [e]; exact hs2 j (by omega) (by omega)
            · by_cases e2 : j = p + 1
              · by_cases e3 : i = p
                · rw [e2, e3]; exact hz
                · have := hs1 i p (by omega) (by omega) e (by omega)
                  rw [e2]; omega
              · exact hs1 i j hij (by omega) e e2) ht
          have nz := fun (hz : q (p + 1) < q p) => ihp (exF q p) (by omega) (hPx q p hq (by omega)) (fun i j hij hj hi hj2 => by
            have v1 : ∀ x, x ≠ p → x ≠ p + 1 → exF q p x = q x := fun x a1 a2 => by unfold exF; rw [sup_n a2, sup_n a1]
            have v2 : exF q p (p + 1) = q p := by unfold exF; rw [sup_s]
            by_cases e : i = p + 1
            · rw [e, v2, v1 j (by omega) (by omega)]; exact hs1 p j (by omega) hj (by omega) (by omega)
            · rw [v1 i hi e]
              by_cases e2 : j = p + 1
              · rw [e2, v2]; exact hs1 i p (by omega) (by omega) e (by omega)
              · rw [v1 j hj2 e2]; exact hs1 i j hij hj e e2) (fun j hj hjk => by
            have v0 : exF q p p = q (p + 1) := by unfold exF; rw [sup_n (by omega), sup_s]
            have v1 : ∀ x, x ≠ p → x ≠ p + 1 → exF q p x = q x := fun x a1 a2 => by unfold exF; rw [sup_n a2, sup_n a1]
            have v2 : exF q p (p + 1) = q p := by unfold exF; rw [sup_s]
            rw [v0]
            by_cases e2 : j = p + 1
            · rw [e2, v2]; omega
            · rw [v1 j (by omega) e2]; exact hs2 j (by omega) hjk) (fun i hi => by
            unfold exF; rw [sup_n (by omega), sup_n (by omega)]; exact ht i hi)
          have hsw := x3_swap (h := zup h r (aI 5 q)) (p := p) (ho' _) (zup_at _ _ _) (by omega) r8
          rw [zup_zup] at hsw
          refine z_iload_n K dX3_sort_12 rfl rfl ?_
          refine j_if_le (tgt := 46) K dX3_sort_13 rfl (by omega) (fun c_13 => ?_) (fun c_13 => ?_)
          · exact absurd c_13 (by omega)
          · refine z_aload_n K dX3_sort_16 rfl rfl rfl ?_
            refine z_get K fd_X3_9_3 (ho' _) rfl dX3_sort_17 ?_
            refine z_iload_n K dX3_sort_20 rfl rfl ?_
            refine j_iconst K dX3_sort_21 ?_
            refine j_isub K dX3_sort_22 ?_
            refine j_ild K (zup_at _ _ _) (by omega) (by omega) dX3_sort_23 ?_
            rw [show (((p + 1 : Nat) : Int) - 1).toNat = p by omega]
            refine z_aload_n K dX3_sort_24 rfl rfl rfl ?_
            refine z_get K fd_X3_9_3 (ho' _) rfl dX3_sort_25 ?_
            refine z_iload_n K dX3_sort_28 rfl rfl ?_
            refine j_ild K (zup_at _ _ _) (by omega) (by omega) dX3_sort_29 ?_
            rw [Int.toNat_natCast]
            refine j_icmp_le (tgt := 46) K dX3_sort_30 rfl (by omega) (by omega) (fun c_30 => ?_) (fun c_30 => ?_)
            · refine j_iinc K dX3_sort_46 rfl (by decide) rfl ?_
              refine z_goto (tgt := 2) K dX3_sort_49 rfl ?_
              exact nx c_30 _ ⟨rfl, rfl, trivial⟩
            · refine z_aload_n K dX3_sort_33 rfl rfl rfl ?_
              refine z_iload_n K dX3_sort_34 rfl rfl ?_
              refine j_iconst K dX3_sort_35 ?_
              refine j_isub K dX3_sort_36 ?_
              rw [show ((p + 1 : Nat) : Int) - 1 = (p : Int) by omega]
              refine z_callV K (hsw) cV_X3_25_X3 (ho' _) rfl rfl rfl (by omega) (by omega) (by omega) (Nat.le_of_ble_eq_true rfl) dX3_sort_37 zvX (zvK ?_)
              refine j_iinc K dX3_sort_40 rfl (by decide) rfl ?_
              refine z_goto (tgt := 12) K dX3_sort_43 rfl ?_
              exact nz c_30 _ ⟨rfl, rfl, by rw [show ((p + 1 : Nat) : Int) + -1 = (p : Int) by omega]; rfl, trivial⟩
      have st := lp k q (Nat.le_refl k) hq (fun i j hij hj hi hj2 => hs i j hij (by omega)) (fun j hj hjk => by omega) ht
      refine z_iload_n K dX3_sort_2 rfl rfl ?_
      refine z_aload_n K dX3_sort_3 rfl rfl rfl ?_
      refine z_get K fd_X3_15_3 (ho' _) rfl dX3_sort_4 ?_
      refine j_icmp_ge (tgt := 52) K dX3_sort_7 rfl (by omega) (by omega) (fun c_7 => ?_) (fun c_7 => ?_)
      · exact absurd c_7 (by omega)
      · refine z_iload_n K dX3_sort_10 rfl rfl ?_
        refine z_istore_n K dX3_sort_11 rfl (by decide) rfl ?_
        exact st _ ⟨rfl, rfl, rfl, trivial⟩
  have st := lk (max 1 n - 1) 1 f (by omega) (by omega) hP (fun i j hij hj => by omega) (fun _ _ => rfl)
  rw [zup_self hr] at st
  refine j_iconst K dX3_sort_0 ?_
  refine z_istore_n K dX3_sort_1 rfl (by decide) rfl ?_
  exact st _ ⟨rfl, rfl, trivial⟩
end XOs

