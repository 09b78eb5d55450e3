/-! ===== the reference: readNumber ===== -/
def nmF (t : Nat → Int) (L e : Int) : Nat → Int → Int → Int × Int
  | 0, p, n => (p, n)
  | r + 1, p, n => if (p < L ∧ 48 ≤ t p.toNat ∧ t p.toNat ≤ 57) ∧ p < e then (if 0 < 10 * n + t p.toNat - 48 then nmF t L e r (p + 1) (10 * n + t p.toNat - 48) else (p + 1, 10 * n + t p.toNat - 48)) else (p, n)
def wNP (w : tW) (p n : Int) : tW := wF (wF w 30 (sup (w 30) 0 p)) 32 (sup (w 32) 0 n)
theorem wNP_30 {w : tW} {p n : Int} : wNP w p n 30 0 = p := rfl
theorem wNP_32 {w : tW} {p n : Int} : wNP w p n 32 0 = n := rfl
theorem wNP_f {w : tW} {p n : Int} {f : Nat} (h1 : f ≠ 30) (h2 : f ≠ 32) : wNP w p n f = w f := by unfold wNP; rw [wF_n h2, wF_n h1]
theorem sup_e {o : Nat → Int} {m : Nat} {v : Int} (h : o m = v) : sup o m v = o := by
  funext i
  by_cases q : i = m
  · rw [q, sup_s, h]
  · rw [sup_n q]
theorem sup_2 {o : Nat → Int} {m : Nat} {v u : Int} : sup (sup o m u) m v = sup o m v := by
  funext i
  by_cases q : i = m
  · rw [q, sup_s, sup_s]
  · rw [sup_n q, sup_n q, sup_n q]
theorem wNP_p {w : tW} {p n v : Int} : tset (wNP w p n) 30 0 v = wNP w v n := by
  funext f
  by_cases q : f = 30
  · subst q; rw [tset_row]; unfold wNP; rw [wF_n (by decide), wF_s, wF_n (by decide), wF_s, sup_2]
  · rw [tset_g q]; unfold wNP
    by_cases r : f = 32
    · subst r; rw [wF_s, wF_s]
    · rw [wF_n r, wF_n q, wF_n r, wF_n q]
theorem wNP_n {w : tW} {p n v : Int} : tset (wNP w p n) 32 0 v = wNP w p v := by
  funext f
  by_cases q : f = 32
  · subst q; rw [tset_row]; unfold wNP; rw [wF_s, wF_s, sup_2]
  · rw [tset_g q]; unfold wNP; rw [wF_n q, wF_n q]
theorem wNP_i {w : tW} {v : Int} : tset w 32 0 v = wNP w (w 30 0) v := by
  funext f
  by_cases q : f = 32
  · subst q; rw [tset_row]; unfold wNP; rw [wF_s]
  · rw [tset_g q]; unfold wNP; rw [wF_n q]
    by_cases r : f = 30
    · subst r; rw [wF_s]; exact (sup_e rfl).symm
    · rw [wF_n r]
/-- what reading a number of at most q digits leaves -/
def wNum (w : tW) (q : Nat) : tW :=
  if w 31 0 < 0 then
    (if (nmF (w 4) (w 5 0) (w 30 0 + q) q (w 30 0) 0).1 = w 30 0 then tset (wNP w (nmF (w 4) (w 5 0) (w 30 0 + q) q (w 30 0) 0).1 (nmF (w 4) (w 5 0) (w 30 0 + q) q (w 30 0) 0).2) 31 0 (w 30 0)
     else wNP w (nmF (w 4) (w 5 0) (w 30 0 + q) q (w 30 0) 0).1 (nmF (w 4) (w 5 0) (w 30 0 + q) q (w 30 0) 0).2)
  else wNP w (w 30 0) 0
/-- how large a number is, r digits before its end -/
def nmB (r : Nat) (n : Int) : Prop := r ≤ 3 ∧ 0 ≤ n ∧ (3 ≤ r → n ≤ 0) ∧ (2 ≤ r → n ≤ 9) ∧ (1 ≤ r → n ≤ 99) ∧ n ≤ 999
theorem tw_readNumber {w : tW} {q : Nat} (hq : 1 ≤ q ∧ q ≤ 3) (h : rdI w) : tMv yX4_readNumber cX4_readNumber 4 3 [.int (iI q)] w (fun w' => w' = wNum w q) := by
  refine zMet.of (by decide) (Nat.le_of_ble_eq_true rfl) fun X K => ?_
  obtain ⟨h1, h2, h3, h4⟩ := h
  have k94 : ∀ p n : Int, w 30 0 ≤ p → p ≤ 80 → (w 31 0 < 0 → nmF (w 4) (w 5 0) (w 30 0 + q) q (w 30 0) 0 = (p, n)) → (0 ≤ w 31 0 → p = w 30 0 ∧ n = 0) → ∀ env, zsub env [(0, .ref 1000), (1, .int (iI q)), (2, .int (iI (w 30 0)))] → zW X (zPv fun h' => ∃ w', h' = tH w' ∧ w' = wNum w q) (tH (wNP w p n)) 0 0 94 env [] := by
    intro p n p0 p1 hF hN env he
    refine zW.cut he ?_
    have e31 : wNP w p n 31 0 = w 31 0 := by rw [wNP_f (by decide) (by decide)]
    have g1 : 0 ≤ w 31 0 → wNP w p n = wNum w q := fun z => by unfold wNum; rw [if_neg (by omega), (hN z).1, (hN z).2]
    have g2 : w 31 0 < 0 → p ≠ w 30 0 → wNP w p n = wNum w q := fun z y => by unfold wNum; rw [if_pos z, hF z, if_neg y]
    have g3 : w 31 0 < 0 → p = w 30 0 → tset (wNP w p n) 31 0 p = wNum w q := fun z y => by unfold wNum; rw [if_pos z, hF z, if_pos y, ← y]
    refine z_aload_n K dX4_readNumber_94 rfl rfl rfl ?_
    refine t_geti K fd_X4_292_0 (by decide) rfl dX4_readNumber_95 ?_
    refine j_if_ge (tgt := 117) K dX4_readNumber_98 rfl (by rw [e31]; omega) (fun c_98 => ?_) (fun c_98 => ?_)
    · rw [e31] at c_98
      exact t_vret K (Nat.le_refl _) (Nat.le_refl _) ((by first | exact g1 (by omega) | exact g2 (by omega) (by omega) | exact g3 (by omega) (by omega))) dX4_readNumber_117
    · rw [e31] at c_98
      refine z_aload_n K dX4_readNumber_101 rfl rfl rfl ?_
      refine t_geti K fd_X4_282_0 (by decide) rfl dX4_readNumber_102 ?_
      refine z_iload_n K dX4_readNumber_105 rfl rfl ?_
      rw [wNP_30]
      refine j_icmp_ne (tgt := 117) K dX4_readNumber_106 rfl (by omega) (by omega) (fun c_106 => ?_) (fun c_106 => ?_)
      · exact t_vret K (Nat.le_refl _) (Nat.le_refl _) ((by first | exact g1 (by omega) | exact g2 (by omega) (by omega) | exact g3 (by omega) (by omega))) dX4_readNumber_117
      · refine z_aload_n K dX4_readNumber_109 rfl rfl rfl ?_
        refine z_aload_n K dX4_readNumber_110 rfl rfl rfl ?_
        refine t_geti K fd_X4_282_0 (by decide) rfl dX4_readNumber_111 ?_
        rw [wNP_30]
        refine t_puti K fd_X4_292_0 ⟨_, rfl, Or.inl rfl⟩ (by decide) rfl rfl dX4_readNumber_114 ?_
        exact t_vret K (Nat.le_refl _) (Nat.le_refl _) ((by first | exact g1 (by omega) | exact g2 (by omega) (by omega) | exact g3 (by omega) (by omega))) dX4_readNumber_117
  have loop : w 31 0 < 0 → ∀ (r : Nat) (p n : Int), p + r = w 30 0 + q → w 30 0 ≤ p → p ≤ w 5 0 → nmB r n → nmF (w 4) (w 5 0) (w 30 0 + q) r p n = nmF (w 4) (w 5 0) (w 30 0 + q) q (w 30 0) 0 → ∀ env, zsub env [(0, .ref 1000), (1, .int (iI q)), (2, .int (iI (w 30 0))), (3, .int (iI 1))] → zW X (zPv fun h' => ∃ w', h' = tH w' ∧ w' = wNum w q) (tH (wNP w p n)) 0 0 23 env [] := by
    intro hf r
    induction r with
    | zero =>
      intro p n hp p0 p1 hB hE env he
      refine zW.cut he ?_
      have hI' : rdI (wNP w p n) := ⟨by rw [wNP_f (by decide) (by decide)]; exact h1, by rw [wNP_30, wNP_f (by decide) (by decide)]; omega, by rw [wNP_f (by decide) (by decide)]; exact h3, by rw [wNP_f (by decide) (by decide)]; exact h4⟩
      have kk := k94 p n p0 (by omega) (fun _ => hE.symm) (fun z => by omega)
      clear k94
      refine z_iload_n K dX4_readNumber_23 rfl rfl ?_
      refine j_if_eq (tgt := 94) K dX4_readNumber_24 rfl (by omega) (fun c_24 => ?_) (fun c_24 => ?_)
      · exact absurd c_24 (by omega)
      · refine z_aload_n K dX4_readNumber_27 rfl rfl rfl ?_
        refine t_callp K (tw_isDigit hI') cV_X4_295_X4 rfl rfl (by decide) (Nat.le_of_ble_eq_true rfl) (Nat.le_refl _) (Nat.le_refl _) dX4_readNumber_28 ?_
        refine j_if_eq (tgt := 94) K dX4_readNumber_31 rfl (b01r _) (fun c_31 => ?_) (fun c_31 => ?_)
        · exact kk _ ⟨rfl, rfl, rfl, trivial⟩
        · refine z_aload_n K dX4_readNumber_34 rfl rfl rfl ?_
          refine t_geti K fd_X4_282_0 (by decide) rfl dX4_readNumber_35 ?_
          refine z_iload_n K dX4_readNumber_38 rfl rfl ?_
          refine z_iload_n K dX4_readNumber_39 rfl rfl ?_
          refine j_iadd K dX4_readNumber_40 ?_
          rw [wNP_30]
          refine j_icmp_ge (tgt := 94) K dX4_readNumber_41 rfl (by omega) (by omega) (fun c_41 => ?_) (fun c_41 => ?_)
          · exact kk _ ⟨rfl, rfl, rfl, trivial⟩
          · exact absurd c_41 (by omega)
    | succ r ih =>
      intro p n hp p0 p1 hB hE env he
      refine zW.cut he ?_
      have hI' : rdI (wNP w p n) := ⟨by rw [wNP_f (by decide) (by decide)]; exact h1, by rw [wNP_30, wNP_f (by decide) (by decide)]; omega, by rw [wNP_f (by decide) (by decide)]; exact h3, by rw [wNP_f (by decide) (by decide)]; exact h4⟩
      have eF : nmF (w 4) (w 5 0) (w 30 0 + q) (r + 1) p n = if (p < w 5 0 ∧ 48 ≤ w 4 p.toNat ∧ w 4 p.toNat ≤ 57) ∧ p < w 30 0 + q then (if 0 < 10 * n + w 4 p.toNat - 48 then nmF (w 4) (w 5 0) (w 30 0 + q) r (p + 1) (10 * n + w 4 p.toNat - 48) else (p + 1, 10 * n + w 4 p.toNat - 48)) else (p, n) := rfl
      have e4 : wNP w p n 4 = w 4 := wNP_f (by decide) (by decide)
      have e5 : wNP w p n 5 = w 5 := wNP_f (by decide) (by decide)
      obtain ⟨b0, b1, b2, b3, b4, b5⟩ := hB
      have no : ¬ (p < w 5 0 ∧ 48 ≤ w 4 p.toNat ∧ w 4 p.toNat ≤ 57) → ∀ env, zsub env [(0, .ref 1000), (1, .int (iI q)), (2, .int (iI (w 30 0)))] → zW X (zPv fun h' => ∃ w', h' = tH w' ∧ w' = wNum w q) (tH (wNP w p n)) 0 0 94 env [] := fun z => k94 p n p0 (by omega) (fun _ => by rw [← hE, eF, if_neg (fun y => z y.1)]) (fun z => by omega)
      have yes : (p < w 5 0 ∧ 48 ≤ w 4 p.toNat ∧ w 4 p.toNat ≤ 57) → 0 < 10 * n + w 4 p.toNat - 48 → ∀ env, zsub env [(0, .ref 1000), (1, .int (iI q)), (2, .int (iI (w 30 0))), (3, .int (iI 1))] → zW X (zPv fun h' => ∃ w', h' = tH w' ∧ w' = wNum w q) (tH (wNP w (p + 1) (10 * n + w 4 p.toNat - 48))) 0 0 23 env [] := fun z y => ih (p + 1) (10 * n + w 4 p.toNat - 48) (by omega) (by omega) (by omega) (by refine ⟨by omega, by omega, fun x => ?_, fun x => ?_, fun x => ?_, by have := b4 (by omega); omega⟩ <;> first | omega | (have := b2 (by omega); omega) | (have := b3 (by omega); omega)) (by rw [← hE, eF, if_pos ⟨z, by omega⟩, if_pos y])
      have zer : (p < w 5 0 ∧ 48 ≤ w 4 p.toNat ∧ w 4 p.toNat ≤ 57) → ¬ 0 < 10 * n + w 4 p.toNat - 48 → ∀ env, zsub env [(0, .ref 1000), (1, .int (iI q)), (2, .int (iI (w 30 0)))] → zW X (zPv fun h' => ∃ w', h' = tH w' ∧ w' = wNum w q) (tH (wNP w (p + 1) (10 * n + w 4 p.toNat - 48))) 0 0 94 env [] := fun z y => k94 (p + 1) _ (by omega) (by omega) (fun _ => by rw [← hE, eF, if_pos ⟨z, by omega⟩, if_neg y]) (fun z => by omega)
      have z23 : (p < w 5 0 ∧ 48 ≤ w 4 p.toNat ∧ w 4 p.toNat ≤ 57) → ¬ 0 < 10 * n + w 4 p.toNat - 48 → ∀ env, zsub env [(0, .ref 1000), (1, .int (iI q)), (2, .int (iI (w 30 0))), (3, .int (iI 0))] → zW X (zPv fun h' => ∃ w', h' = tH w' ∧ w' = wNum w q) (tH (wNP w (p + 1) (10 * n + w 4 p.toNat - 48))) 0 0 23 env [] := fun z y env he => by
        refine zW.cut he ?_
        have z94 := zer z y
        clear ih k94 yes no zer
        refine z_iload_n K dX4_readNumber_23 rfl rfl ?_
        refine j_if_eq (tgt := 94) K dX4_readNumber_24 rfl (by omega) (fun c_24 => ?_) (fun c_24 => ?_)
        · exact z94 _ ⟨rfl, rfl, rfl, trivial⟩
        · exact absurd rfl c_24
      clear ih k94
      refine z_iload_n K dX4_readNumber_23 rfl rfl ?_
      refine j_if_eq (tgt := 94) K dX4_readNumber_24 rfl (by omega) (fun c_24 => ?_) (fun c_24 => ?_)
      · exact absurd c_24 (by omega)
      · refine z_aload_n K dX4_readNumber_27 rfl rfl rfl ?_
        refine t_callp K (tw_isDigit hI') cV_X4_295_X4 rfl rfl (by decide) (Nat.le_of_ble_eq_true rfl) (Nat.le_refl _) (Nat.le_refl _) dX4_readNumber_28 ?_
        rw [wNP_30, e4, e5]
        refine j_if_eq (tgt := 94) K dX4_readNumber_31 rfl (b01r _) (fun c_31 => ?_) (fun c_31 => ?_)
        · rw [bI_eq] at c_31
          have zz := no c_31
          exact zz _ ⟨rfl, rfl, rfl, trivial⟩
        · rw [bI_ne] at c_31
          refine z_aload_n K dX4_readNumber_34 rfl rfl rfl ?_
          refine t_geti K fd_X4_282_0 (by decide) rfl dX4_readNumber_35 ?_
          refine z_iload_n K dX4_readNumber_38 rfl rfl ?_
          refine z_iload_n K dX4_readNumber_39 rfl rfl ?_
          refine j_iadd K dX4_readNumber_40 ?_
          rw [wNP_30]
          refine j_icmp_ge (tgt := 94) K dX4_readNumber_41 rfl (by omega) (by omega) (fun c_41 => ?_) (fun c_41 => ?_)
          · exact absurd c_41 (by omega)
          · refine z_aload_n K dX4_readNumber_44 rfl rfl rfl ?_
            refine j_bipush K dX4_readNumber_45 (by decide +kernel) ?_
            refine z_aload_n K dX4_readNumber_47 rfl rfl rfl ?_
            refine t_geti K fd_X4_289_0 (by decide) rfl dX4_readNumber_48 ?_
            rw [wNP_32]
            refine j_imul K dX4_readNumber_51 ?_
            refine z_aload_n K dX4_readNumber_52 rfl rfl rfl ?_
            refine t_geta K fd_X4_16_0 rfl dX4_readNumber_53 ?_
            refine z_aload_n K dX4_readNumber_56 rfl rfl rfl ?_
            refine t_geti K fd_X4_282_0 (by decide) rfl dX4_readNumber_57 ?_
            rw [wNP_30]
            refine t_cld K 4 80 rfl rfl rfl (by omega) (by omega) rfl dX4_readNumber_60 ?_
            rw [e4]
            refine j_iadd K dX4_readNumber_61 ?_
            refine j_bipush K dX4_readNumber_62 (by decide +kernel) ?_
            refine j_isub K dX4_readNumber_64 ?_
            refine t_puti K fd_X4_289_0 ⟨_, rfl, Or.inl rfl⟩ (by decide) rfl rfl dX4_readNumber_65 ?_
            rw [wNP_n]
            refine z_aload_n K dX4_readNumber_68 rfl rfl rfl ?_
            refine z_dup K dX4_readNumber_69 rfl ?_
            refine t_geti K fd_X4_282_0 (by decide) rfl dX4_readNumber_70 ?_
            rw [wNP_30]
            refine j_iconst K dX4_readNumber_73 ?_
            refine j_iadd K dX4_readNumber_74 ?_
            refine t_puti K fd_X4_282_0 ⟨_, rfl, Or.inl rfl⟩ (by decide) rfl rfl dX4_readNumber_75 ?_
            rw [wNP_p]
            refine z_aload_n K dX4_readNumber_78 rfl rfl rfl ?_
            refine t_geti K fd_X4_289_0 (by decide) rfl dX4_readNumber_79 ?_
            rw [wNP_32]
            refine j_if_le (tgt := 89) K dX4_readNumber_82 rfl (by omega) (fun c_82 => ?_) (fun c_82 => ?_)
            · have zz := z23 c_31 (by omega)
              refine j_iconst K dX4_readNumber_89 ?_
              refine z_istore_n K dX4_readNumber_90 rfl (by decide) rfl ?_
              refine z_goto (tgt := 23) K dX4_readNumber_91 rfl ?_
              exact zz _ ⟨rfl, rfl, rfl, rfl, trivial⟩
            · have zz := yes c_31 (by omega)
              refine j_iconst K dX4_readNumber_85 ?_
              refine z_goto (tgt := 90) K dX4_readNumber_86 rfl ?_
              refine z_istore_n K dX4_readNumber_90 rfl (by decide) rfl ?_
              refine z_goto (tgt := 23) K dX4_readNumber_91 rfl ?_
              exact zz _ ⟨rfl, rfl, rfl, rfl, trivial⟩
  have go := fun hf => loop hf q (w 30 0) 0 (by omega) (by omega) (by omega) ⟨by omega, by omega, by omega, by omega, by omega, by omega⟩ rfl
  have go2 := fun (hf : 0 ≤ w 31 0) => k94 (w 30 0) 0 (by omega) (by omega) (fun z => by omega) (fun _ => ⟨rfl, rfl⟩)
  clear loop k94
  have go3 : 0 ≤ w 31 0 → ∀ env, zsub env [(0, .ref 1000), (1, .int (iI q)), (2, .int (iI (w 30 0))), (3, .int (iI 0))] → zW X (zPv fun h' => ∃ w', h' = tH w' ∧ w' = wNum w q) (tH (wNP w (w 30 0) 0)) 0 0 23 env [] := fun hf env he => by
    refine zW.cut he ?_
    refine z_iload_n K dX4_readNumber_23 rfl rfl ?_
    refine j_if_eq (tgt := 94) K dX4_readNumber_24 rfl (by omega) (fun c_24 => ?_) (fun c_24 => ?_)
    · exact go2 hf _ ⟨rfl, rfl, rfl, trivial⟩
    · exact absurd rfl c_24
  refine z_aload_n K dX4_readNumber_0 rfl rfl rfl ?_
  refine j_iconst K dX4_readNumber_1 ?_
  refine t_puti K fd_X4_289_0 ⟨_, rfl, Or.inl rfl⟩ (by decide) rfl rfl dX4_readNumber_2 ?_
  rw [wNP_i]
  refine z_aload_n K dX4_readNumber_5 rfl rfl rfl ?_
  refine t_geti K fd_X4_282_0 (by decide) rfl dX4_readNumber_6 ?_
  rw [wNP_30]
  refine z_istore_n K dX4_readNumber_9 rfl (by decide) rfl ?_
  refine z_aload_n K dX4_readNumber_10 rfl rfl rfl ?_
  refine t_geti K fd_X4_292_0 (by decide) rfl dX4_readNumber_11 ?_
  rw [wNP_f (by decide) (by decide)]
  refine j_if_ge (tgt := 21) K dX4_readNumber_14 rfl (by omega) (fun c_14 => ?_) (fun c_14 => ?_)
  · have zz := go3 c_14
    refine j_iconst K dX4_readNumber_21 ?_
    refine z_istore_n K dX4_readNumber_22 rfl (by decide) rfl ?_
    exact zz _ ⟨rfl, rfl, rfl, rfl, trivial⟩
  · have zz := go c_14
    refine j_iconst K dX4_readNumber_17 ?_
    refine z_goto (tgt := 22) K dX4_readNumber_18 rfl ?_
    refine z_istore_n K dX4_readNumber_22 rfl (by decide) rfl ?_
    exact zz _ ⟨rfl, rfl, rfl, rfl, trivial⟩

