/-! ===== the reference: building ===== -/
def w3 (w : tW) (s g fx : Nat → Int) : tW := fun f => if f = 0 then s else if f = 18 then g else if f = 19 then fx else w f
theorem w30 {w : tW} {s g fx : Nat → Int} : w3 w s g fx 0 = s := rfl
theorem w318 {w : tW} {s g fx : Nat → Int} : w3 w s g fx 18 = g := rfl
theorem w319 {w : tW} {s g fx : Nat → Int} : w3 w s g fx 19 = fx := rfl
theorem w3_f {w : tW} {s g fx : Nat → Int} {f : Nat} (h0 : f ≠ 0) (h1 : f ≠ 18) (h2 : f ≠ 19) : w3 w s g fx f = w f := by simp [w3, h0, h1, h2]
theorem w3_i {w : tW} : w3 w (w 0) (w 18) (w 19) = w := by
  funext f
  unfold w3
  split
  · next h => rw [h]
  · split
    · next h => rw [h]
    · split
      · next h => rw [h]
      · rfl
theorem w3_s {w : tW} {s g fx : Nat → Int} {i : Nat} {v : Int} : tset (w3 w s g fx) 0 i v = w3 w (sup s i v) g fx := by
  funext f j
  unfold tset w3 sup
  by_cases c : f = 0
  · subst c; by_cases d : j = i <;> simp [d]
  · simp [c]
theorem w3_g {w : tW} {s g fx : Nat → Int} {i : Nat} {v : Int} : tset (w3 w s g fx) 18 i v = w3 w s (sup g i v) fx := by
  funext f j
  unfold tset w3 sup
  by_cases c : f = 18
  · subst c; by_cases d : j = i <;> simp [d]
  · simp [c]
theorem w3_x {w : tW} {s g fx : Nat → Int} {i : Nat} {v : Int} : tset (w3 w s g fx) 19 i v = w3 w s g (sup fx i v) := by
  funext f j
  unfold tset w3 sup
  by_cases c : f = 19
  · subst c; by_cases d : j = i <;> simp [d]
  · simp [c]
noncomputable def wBld (w : tW) (u t : Int) (s g fx : Nat → Int) (n : Nat) : tW := w3 w (bld u t n s g fx).1 (bld u t n s g fx).2.1 (bld u t n s g fx).2.2
theorem tw_cand {w : tW} {s g fx : Nat → Int} {k t : Int} (h : BI s g fx) (ht : 0 ≤ t ∧ t ≤ 999) (hk : 0 ≤ k ∧ k < s 1) (hi : sIx s k = g (sJb s k).toNat) : tMi yX4_candidateStart cX4_candidateStart 8 .int 3 [.int (iI k), .int (iI t)] (w3 w s g fx) (fun v w' => v = cst s fx t k ∧ w' = w3 w s g fx) := by
  have hrr := h.rr
  obtain ⟨a1, a2, a3, a4, a5, a6⟩ := h.A.2.1.2 k hk.1 hk.2
  obtain ⟨o1, o2, -⟩ := h.O _ a2.1 a2.2
  refine tw_candidateStart (w := w3 w s g fx) h.A hk ht ?_ o1 (fun q => ?_)
  · rcases sBef_ok h.A hk.1 hk.2 with q | ⟨q1, q2, q3⟩
    · exact Or.inl q
    · have := h.F _ ⟨q1, by rw [q2, q3, ← hi]; omega⟩
      exact Or.inr ⟨this.1, by show fx (sBef s k).toNat ≤ 10000; omega⟩
  · have q1 := (o2 (sOn s (sMc s k) - 1) (by have q9 : 0 < sOn s (sMc s k) := q; omega) (by omega)).1
    have := h.F _ q1
    exact ⟨q1.1, this.1, by show fx (sOr s (sMc s k) (sOn s (sMc s k) - 1)).toNat ≤ 10000; omega⟩
theorem tw_build {w : tW} {u t : Int} (hu : 0 ≤ u ∧ u ≤ 3) (ht : 0 ≤ t ∧ t ≤ 999) (h0 : BI (w 0) (w 18) (w 19)) : tMv yX4_build cX4_build 9 4 [.int (iI u), .int (iI t)] w (fun w' => w' = wBld w u t (w 0) (w 18) (w 19) 21) := by
  refine zMet.of (by decide) (Nat.le_of_ble_eq_true rfl) fun X K => ?_
  have inner : ∀ (s g fx : Nat → Int), BI s g fx → (∀ env, zsub env [(0, .ref 1000), (1, .int (iI u)), (2, .int (iI t)), (4, .int (iI (chs s g fx u t (s 0).toNat).1)), (5, .int (iI (chs s g fx u t (s 0).toNat).2))] → zW X (zPv fun h' => ∃ w', h' = tH w' ∧ w' = wBld w u t (w 0) (w 18) (w 19) 21) (tH (w3 w s g fx)) 0 0 116 env []) → ∀ (r j : Nat), j + r = (s 0).toNat → ∀ a b : Int, chs s g fx u t j = (a, b) → ∀ env, zsub env [(0, .ref 1000), (1, .int (iI u)), (2, .int (iI t)), (4, .int (iI a)), (5, .int (iI b)), (6, .int (iI j))] → zW X (zPv fun h' => ∃ w', h' = tH w' ∧ w' = wBld w u t (w 0) (w 18) (w 19) 21) (tH (w3 w s g fx)) 0 0 15 env [] := by
    intro s g fx h kont r
    have h20 := h.A.2.1.1
    have h05 := h.A.1.1
    have e0 : (0 : Int).toNat = 0 := rfl
    induction r with
    | zero =>
      intro j hj a b hab env he
      refine zW.cut he ?_
      rw [show (s 0).toNat = j by omega, hab] at kont
      refine z_iload K dX4_build_15 rfl ?_
      refine z_aload_n K dX4_build_17 rfl rfl rfl ?_
      refine t_geta K fd_X4_9_0 rfl dX4_build_18 ?_
      refine j_iconst K dX4_build_21 ?_
      refine t_ild K 0 203 rfl rfl rfl (by omega) (by omega) rfl dX4_build_22 ?_
      simp only [w30, e0]
      refine j_icmp_ge (tgt := 116) K dX4_build_23 rfl (by omega) (by omega) (fun c_23 => ?_) (fun c_23 => ?_)
      · exact kont _ ⟨rfl, rfl, rfl, rfl, rfl, trivial⟩
      · exact absurd c_23 (by omega)
    | succ r ih =>
      intro j hj a b hab env he
      refine zW.cut he ?_
      have hg := h.G j (by omega) (by omega)
      have hln := (h.A.1.2 j (by omega) (by omega)).2.2.2
      rw [Int.toNat_natCast] at hg
      have ec : chs s g fx u t (j + 1) = if g j < sLen s j ∧ (a = -1 ∨ cst s fx t (sSeq s j (g j)) < b ∨ (cst s fx t (sSeq s j (g j)) = b ∧ pfr s u (sSeq s j (g j)) a)) then (sSeq s j (g j), cst s fx t (sSeq s j (g j))) else (a, b) := by rw [chs]; (try dsimp only); rw [hab]
      have hab2 : (a = -1 ∨ (0 ≤ a ∧ a < s 1) ∧ 0 ≤ b ∧ b ≤ 2000) := by
        rcases chs_ok (u := u) (t := t) (fx := fx) h.A h.G j (by omega) with ⟨c1, c2⟩ | ⟨k, hk, hi, hc⟩
        · rw [hab] at c1; exact Or.inl c1
        · rw [hab] at hc
          injection hc with z1 z2
          subst z1 z2
          exact Or.inr ⟨hk, h.cr ht hk hi⟩
      have hs := fun q => h.A.2.2.1 j (g j) (by omega) (by omega) hg.1 q
      have fin : ∀ a' b' : Int, chs s g fx u t (j + 1) = (a', b') → ∀ env, zsub env [(0, .ref 1000), (1, .int (iI u)), (2, .int (iI t)), (4, .int (iI a')), (5, .int (iI b')), (6, .int (iI ((j : Int) + 1)))] → zW X (zPv fun h' => ∃ w', h' = tH w' ∧ w' = wBld w u t (w 0) (w 18) (w 19) 21) (tH (w3 w s g fx)) 0 0 15 env [] := fun a' b' q env he => ih (j + 1) (by omega) a' b' q env he
      generalize hL : sLen s j = L at *
      generalize ho : sSeq s j (g j) = o at *
      clear ih kont he
      refine z_iload K dX4_build_15 rfl ?_
      refine z_aload_n K dX4_build_17 rfl rfl rfl ?_
      refine t_geta K fd_X4_9_0 rfl dX4_build_18 ?_
      refine j_iconst K dX4_build_21 ?_
      refine t_ild K 0 203 rfl rfl rfl (by omega) (by omega) rfl dX4_build_22 ?_
      simp only [w30, e0]
      refine j_icmp_ge (tgt := 116) K dX4_build_23 rfl (by omega) (by omega) (fun c_23 => ?_) (fun c_23 => ?_)
      · exact absurd c_23 (by omega)
      · refine z_aload_n K dX4_build_26 rfl rfl rfl ?_
        refine t_geta K fd_X4_43_0 rfl dX4_build_27 ?_
        refine z_iload K dX4_build_30 rfl ?_
        refine t_ild K 18 5 rfl rfl rfl (by omega) (by omega) rfl dX4_build_32 ?_
        simp only [w318, Int.toNat_natCast]
        refine z_aload_n K dX4_build_33 rfl rfl rfl ?_
        refine t_geta K fd_X4_9_0 rfl dX4_build_34 ?_
        refine j_bipush K dX4_build_37 (by decide +kernel) ?_
        refine z_iload K dX4_build_39 rfl ?_
        refine j_iadd K dX4_build_41 ?_
        refine t_ild K 0 203 rfl rfl rfl (by omega) (by omega) rfl dX4_build_42 ?_
        simp only [w30]
        rw [show s (17 + (j : Int)).toNat = L from hL]
        refine j_icmp_ge (tgt := 110) K dX4_build_43 rfl (by omega) (by omega) (fun c_43 => ?_) (fun c_43 => ?_)
        · refine j_iinc K dX4_build_110 rfl (by decide) rfl ?_
          refine z_goto (tgt := 15) K dX4_build_113 rfl ?_
          exact fin _ _ (by rw [ec]; first | exact if_pos ⟨by omega, Or.inl (by omega)⟩ | exact if_pos ⟨by omega, Or.inr (Or.inl (by omega))⟩ | exact if_pos ⟨by omega, Or.inr (Or.inr ⟨by omega, c_99⟩)⟩ | exact if_neg (fun ⟨q1, q2⟩ => by rcases q2 with q | q | ⟨q, q'⟩ <;> first | omega | exact absurd q' c_99)) _ ⟨rfl, rfl, rfl, rfl, rfl, rfl, trivial⟩
        · obtain ⟨s1, s2, s3⟩ := hs (by omega)
          refine z_aload_n K dX4_build_46 rfl rfl rfl ?_
          refine z_iload K dX4_build_47 rfl ?_
          refine z_aload_n K dX4_build_49 rfl rfl rfl ?_
          refine t_geta K fd_X4_43_0 rfl dX4_build_50 ?_
          refine z_iload K dX4_build_53 rfl ?_
          refine t_ild K 18 5 rfl rfl rfl (by omega) (by omega) rfl dX4_build_55 ?_
          simp only [w318, Int.toNat_natCast]
          refine t_callp K (tw_sequence (by omega) (by omega)) cV_X4_110_X4 rfl rfl (by decide) (Nat.le_of_ble_eq_true rfl) (Nat.le_refl _) (Nat.le_refl _) dX4_build_56 ?_
          simp only [w30]
          rw [show s (22 + 4 * (j : Int) + g j).toNat = o from ho]
          refine z_istore K dX4_build_59 (by decide) rfl ?_
          refine z_aload_n K dX4_build_61 rfl rfl rfl ?_
          refine z_iload K dX4_build_62 rfl ?_
          refine z_iload_n K dX4_build_64 rfl rfl ?_
          refine t_callp K (tw_cand h ht s1 (by rw [s2, s3, Int.toNat_natCast])) cV_X4_235_X4 rfl rfl (by decide) (Nat.le_of_ble_eq_true rfl) (Nat.le_refl _) (Nat.le_refl _) dX4_build_65 ?_
          have hcr := h.cr ht s1 (by rw [s2, s3, Int.toNat_natCast])
          generalize hc : cst s fx t o = c at *
          refine z_istore K dX4_build_68 (by decide) rfl ?_
          refine z_iload K dX4_build_70 rfl ?_
          refine j_iconst K dX4_build_72 ?_
          refine j_icmp_eq (tgt := 102) K dX4_build_73 rfl (by omega) (by omega) (fun c_73 => ?_) (fun c_73 => ?_)
          · refine z_iload K dX4_build_102 rfl ?_
            refine z_istore K dX4_build_104 (by decide) rfl ?_
            refine z_iload K dX4_build_106 rfl ?_
            refine z_istore K dX4_build_108 (by decide) rfl ?_
            refine j_iinc K dX4_build_110 rfl (by decide) rfl ?_
            refine z_goto (tgt := 15) K dX4_build_113 rfl ?_
            exact fin _ _ (by rw [ec]; first | exact if_pos ⟨by omega, Or.inl (by omega)⟩ | exact if_pos ⟨by omega, Or.inr (Or.inl (by omega))⟩ | exact if_pos ⟨by omega, Or.inr (Or.inr ⟨by omega, c_99⟩)⟩ | exact if_neg (fun ⟨q1, q2⟩ => by rcases q2 with q | q | ⟨q, q'⟩ <;> first | omega | exact absurd q' c_99)) _ ⟨rfl, rfl, rfl, rfl, rfl, rfl, trivial⟩
          · refine z_iload K dX4_build_76 rfl ?_
            refine z_iload K dX4_build_78 rfl ?_
            refine j_icmp_lt (tgt := 102) K dX4_build_80 rfl (by omega) (by omega) (fun c_80 => ?_) (fun c_80 => ?_)
            · refine z_iload K dX4_build_102 rfl ?_
              refine z_istore K dX4_build_104 (by decide) rfl ?_
              refine z_iload K dX4_build_106 rfl ?_
              refine z_istore K dX4_build_108 (by decide) rfl ?_
              refine j_iinc K dX4_build_110 rfl (by decide) rfl ?_
              refine z_goto (tgt := 15) K dX4_build_113 rfl ?_
              exact fin _ _ (by rw [ec]; first | exact if_pos ⟨by omega, Or.inl (by omega)⟩ | exact if_pos ⟨by omega, Or.inr (Or.inl (by omega))⟩ | exact if_pos ⟨by omega, Or.inr (Or.inr ⟨by omega, c_99⟩)⟩ | exact if_neg (fun ⟨q1, q2⟩ => by rcases q2 with q | q | ⟨q, q'⟩ <;> first | omega | exact absurd q' c_99)) _ ⟨rfl, rfl, rfl, rfl, rfl, rfl, trivial⟩
            · refine z_iload K dX4_build_83 rfl ?_
              refine z_iload K dX4_build_85 rfl ?_
              refine j_icmp_ne (tgt := 110) K dX4_build_87 rfl (by omega) (by omega) (fun c_87 => ?_) (fun c_87 => ?_)
              · refine j_iinc K dX4_build_110 rfl (by decide) rfl ?_
                refine z_goto (tgt := 15) K dX4_build_113 rfl ?_
                exact fin _ _ (by rw [ec]; first | exact if_pos ⟨by omega, Or.inl (by omega)⟩ | exact if_pos ⟨by omega, Or.inr (Or.inl (by omega))⟩ | exact if_pos ⟨by omega, Or.inr (Or.inr ⟨by omega, c_99⟩)⟩ | exact if_neg (fun ⟨q1, q2⟩ => by rcases q2 with q | q | ⟨q, q'⟩ <;> first | omega | exact absurd q' c_99)) _ ⟨rfl, rfl, rfl, rfl, rfl, rfl, trivial⟩
              · refine z_aload_n K dX4_build_90 rfl rfl rfl ?_
                refine z_iload_n K dX4_build_91 rfl rfl ?_
                refine z_iload K dX4_build_92 rfl ?_
                refine z_iload K dX4_build_94 rfl ?_
                refine t_callp K (tw_prefers (w := w3 w s g fx) h.A hu s1 (by show 0 ≤ a ∧ a < s 1; omega)) cV_X4_238_X4 rfl rfl (by decide) (Nat.le_of_ble_eq_true rfl) (Nat.le_refl _) (Nat.le_refl _) dX4_build_96 ?_
                rw [show w3 w s g fx 0 = s from rfl]
                refine j_if_eq (tgt := 110) K dX4_build_99 rfl (b01r _) (fun c_99 => ?_) (fun c_99 => ?_)
                · rw [bI_eq] at c_99
                  refine j_iinc K dX4_build_110 rfl (by decide) rfl ?_
                  refine z_goto (tgt := 15) K dX4_build_113 rfl ?_
                  exact fin _ _ (by rw [ec]; first | exact if_pos ⟨by omega, Or.inl (by omega)⟩ | exact if_pos ⟨by omega, Or.inr (Or.inl (by omega))⟩ | exact if_pos ⟨by omega, Or.inr (Or.inr ⟨by omega, c_99⟩)⟩ | exact if_neg (fun ⟨q1, q2⟩ => by rcases q2 with q | q | ⟨q, q'⟩ <;> first | omega | exact absurd q' c_99)) _ ⟨rfl, rfl, rfl, rfl, rfl, rfl, trivial⟩
                · rw [bI_ne] at c_99
                  refine z_iload K dX4_build_102 rfl ?_
                  refine z_istore K dX4_build_104 (by decide) rfl ?_
                  refine z_iload K dX4_build_106 rfl ?_
                  refine z_istore K dX4_build_108 (by decide) rfl ?_
                  refine j_iinc K dX4_build_110 rfl (by decide) rfl ?_
                  refine z_goto (tgt := 15) K dX4_build_113 rfl ?_
                  exact fin _ _ (by rw [ec]; first | exact if_pos ⟨by omega, Or.inl (by omega)⟩ | exact if_pos ⟨by omega, Or.inr (Or.inl (by omega))⟩ | exact if_pos ⟨by omega, Or.inr (Or.inr ⟨by omega, c_99⟩)⟩ | exact if_neg (fun ⟨q1, q2⟩ => by rcases q2 with q | q | ⟨q, q'⟩ <;> first | omega | exact absurd q' c_99)) _ ⟨rfl, rfl, rfl, rfl, rfl, rfl, trivial⟩
  have outer : ∀ (n : Nat) (s g fx : Nat → Int), BI s g fx → rem s g (s 0).toNat < n → wBld w u t s g fx n = wBld w u t (w 0) (w 18) (w 19) 21 → ∀ env, zsub env [(0, .ref 1000), (1, .int (iI u)), (2, .int (iI t)), (3, .int (iI 1))] → zW X (zPv fun h' => ∃ w', h' = tH w' ∧ w' = wBld w u t (w 0) (w 18) (w 19) 21) (tH (w3 w s g fx)) 0 0 2 env [] := by
    intro n
    induction n with
    | zero => intro s g fx h hr; have := h.rr; omega
    | succ n ih =>
      intro s g fx h hr hw env he
      have h20 := h.A.2.1.1
      have h05 := h.A.1.1
      have e0 : (0 : Int).toNat = 0 := rfl
      refine zW.cut he ?_
      have k116 : ∀ env, zsub env [(0, .ref 1000), (1, .int (iI u)), (2, .int (iI t)), (4, .int (iI (chs s g fx u t (s 0).toNat).1)), (5, .int (iI (chs s g fx u t (s 0).toNat).2))] → zW X (zPv fun h' => ∃ w', h' = tH w' ∧ w' = wBld w u t (w 0) (w 18) (w 19) 21) (tH (w3 w s g fx)) 0 0 116 env [] := by
        intro env he
        rcases chs_ok (u := u) (t := t) (fx := fx) h.A h.G (s 0).toNat (by omega) with ⟨c1, c2⟩ | ⟨k, hk, hi, hc⟩
        · have ex : w3 w s g fx = wBld w u t (w 0) (w 18) (w 19) 21 := by rw [← hw, wBld, bld_d c1]
          rw [c1] at he
          refine zW.cut he ?_
          clear ih
          refine z_iload K dX4_build_116 rfl ?_
          refine j_iconst K dX4_build_118 ?_
          refine j_icmp_eq (tgt := 126) K dX4_build_119 rfl (by omega) (by omega) (fun c_119 => ?_) (fun c_119 => ?_)
          · refine j_iconst K dX4_build_126 ?_
            refine z_istore_n K dX4_build_127 rfl (by decide) rfl ?_
            refine z_iload_n K dX4_build_128 rfl rfl ?_
            refine j_if_eq (tgt := 206) K dX4_build_129 rfl (by omega) (fun c_129 => ?_) (fun c_129 => ?_)
            · refine z_goto (tgt := 2) K dX4_build_206 rfl ?_
              refine z_iload_n K dX4_build_2 rfl rfl ?_
              refine j_if_eq (tgt := 209) K dX4_build_3 rfl (by omega) (fun c_3 => ?_) (fun c_3 => ?_)
              · exact t_vret K (Nat.le_refl _) (Nat.le_refl _) (ex) dX4_build_209
              · exact absurd rfl c_3
            · exact absurd rfl c_129
          · exact absurd rfl c_119
        · rw [hc] at he
          have hcr := h.cr ht hk hi
          obtain ⟨q, e⟩ := h.step ht hk hi
          obtain ⟨a1, a2, a3, a4, a5, a6⟩ := h.A.2.1.2 k hk.1 hk.2
          have on := (h.O _ a2.1 a2.2).1
          have hfit := h.fit hk hi
          have nxt := ih _ _ _ q (by omega) (by rw [← hw, wBld, wBld, bld_s hc (by omega)])
          have hg := h.G _ a1.1 a1.2
          have hln := (h.A.1.2 _ a1.1 a1.2).2.2.2
          unfold sAdd at nxt
          clear ih q e
          (try dsimp only [sRel, sDue, sWt, sLen, sSeq, sJb, sMc, sDu, sFa, sIx, sSu, sBn, sBf, sBl, sOn, sOr] at *)
          generalize hv : cst s fx t k = v at *
          refine zW.cut he ?_
          generalize hm : s (62 + k).toNat = m at *
          generalize hj : s (42 + k).toNat = j at *
          generalize hn : s (179 + m).toNat = n1 at *
          refine z_iload K dX4_build_116 rfl ?_
          refine j_iconst K dX4_build_118 ?_
          refine j_icmp_eq (tgt := 126) K dX4_build_119 rfl (by omega) (by omega) (fun c_119 => ?_) (fun c_119 => ?_)
          · exact absurd c_119 (by omega)
          · refine j_iconst K dX4_build_122 ?_
            refine z_goto (tgt := 127) K dX4_build_123 rfl ?_
            refine z_istore_n K dX4_build_127 rfl (by decide) rfl ?_
            refine z_iload_n K dX4_build_128 rfl rfl ?_
            refine j_if_eq (tgt := 206) K dX4_build_129 rfl (by omega) (fun c_129 => ?_) (fun c_129 => ?_)
            · exact absurd c_129 (by omega)
            · refine z_aload_n K dX4_build_132 rfl rfl rfl ?_
              refine t_geta K fd_X4_46_0 rfl dX4_build_133 ?_
              refine z_iload K dX4_build_136 rfl ?_
              refine z_iload K dX4_build_138 rfl ?_
              refine t_ist K 19 20 rfl rfl rfl (by omega) (by omega) rfl dX4_build_140 ?_
              rw [w3_x]
              refine z_aload_n K dX4_build_141 rfl rfl rfl ?_
              refine t_geta K fd_X4_9_0 rfl dX4_build_142 ?_
              refine j_bipush K dX4_build_145 (by decide +kernel) ?_
              refine z_iload K dX4_build_147 rfl ?_
              refine j_iadd K dX4_build_149 ?_
              refine t_ild K 0 203 rfl rfl rfl (by omega) (by omega) rfl dX4_build_150 ?_
              simp only [w30]
              rw [hm]
              refine z_istore K dX4_build_151 (by decide) rfl ?_
              refine z_aload_n K dX4_build_153 rfl rfl rfl ?_
              refine z_iload K dX4_build_154 rfl ?_
              refine z_aload_n K dX4_build_156 rfl rfl rfl ?_
              refine t_geta K fd_X4_9_0 rfl dX4_build_157 ?_
              refine j_sipush K dX4_build_160 (by decide +kernel) ?_
              refine z_iload K dX4_build_163 rfl ?_
              refine j_iadd K dX4_build_165 ?_
              refine t_ild K 0 203 rfl rfl rfl (by omega) (by omega) rfl dX4_build_166 ?_
              simp only [w30]
              rw [hn]
              refine z_iload K dX4_build_167 rfl ?_
              refine t_callv K (tw_setOrdered (by omega) (by omega)) cV_X4_114_X4 rfl rfl (by decide) (Nat.le_of_ble_eq_true rfl) (Nat.le_refl _) (Nat.le_refl _) dX4_build_169 ?_
              rintro _ rfl
              rw [w3_s]
              refine z_aload_n K dX4_build_172 rfl rfl rfl ?_
              refine t_geta K fd_X4_9_0 rfl dX4_build_173 ?_
              refine j_sipush K dX4_build_176 (by decide +kernel) ?_
              refine z_iload K dX4_build_179 rfl ?_
              refine j_iadd K dX4_build_181 ?_
              refine z_dup2 K dX4_build_182 rfl rfl ?_
              refine t_ild K 0 203 rfl rfl rfl (by omega) (by omega) rfl dX4_build_183 ?_
              simp only [w30]
              rw [sup_n (by omega), hn]
              refine j_iconst K dX4_build_184 ?_
              refine j_iadd K dX4_build_185 ?_
              refine t_ist K 0 203 rfl rfl rfl (by omega) (by omega) rfl dX4_build_186 ?_
              rw [w3_s]
              refine z_aload_n K dX4_build_187 rfl rfl rfl ?_
              refine t_geta K fd_X4_43_0 rfl dX4_build_188 ?_
              refine z_aload_n K dX4_build_191 rfl rfl rfl ?_
              refine t_geta K fd_X4_9_0 rfl dX4_build_192 ?_
              refine j_bipush K dX4_build_195 (by decide +kernel) ?_
              refine z_iload K dX4_build_197 rfl ?_
              refine j_iadd K dX4_build_199 ?_
              refine t_ild K 0 203 rfl rfl rfl (by omega) (by omega) rfl dX4_build_200 ?_
              simp only [w30]
              rw [sup_n (by omega), sup_n (by omega), hj]
              refine z_dup2 K dX4_build_201 rfl rfl ?_
              refine t_ild K 18 5 rfl rfl rfl (by omega) (by omega) rfl dX4_build_202 ?_
              simp only [w318]
              refine j_iconst K dX4_build_203 ?_
              refine j_iadd K dX4_build_204 ?_
              refine t_ist K 18 5 rfl rfl rfl (by omega) (by omega) rfl dX4_build_205 ?_
              rw [w3_g]
              refine z_goto (tgt := 2) K dX4_build_206 rfl ?_
              exact nxt _ ⟨rfl, rfl, rfl, rfl, trivial⟩
      clear ih hw
      refine z_iload_n K dX4_build_2 rfl rfl ?_
      refine j_if_eq (tgt := 209) K dX4_build_3 rfl (by omega) (fun c_3 => ?_) (fun c_3 => ?_)
      · exact absurd c_3 (by omega)
      · refine j_iconst K dX4_build_6 ?_
        refine z_istore K dX4_build_7 (by decide) rfl ?_
        refine j_iconst K dX4_build_9 ?_
        refine z_istore K dX4_build_10 (by decide) rfl ?_
        refine j_iconst K dX4_build_12 ?_
        refine z_istore K dX4_build_13 (by decide) rfl ?_
        exact inner s g fx h k116 (s 0).toNat 0 (by omega) _ _ rfl _ ⟨rfl, rfl, rfl, rfl, rfl, rfl, trivial⟩
  have go : ∀ env, zsub env [(0, .ref 1000), (1, .int (iI u)), (2, .int (iI t)), (3, .int (iI 1))] → zW X (zPv fun h' => ∃ w', h' = tH w' ∧ w' = wBld w u t (w 0) (w 18) (w 19) 21) (tH w) 0 0 2 env [] := fun env he => by
    have := outer 21 (w 0) (w 18) (w 19) h0 (by have := h0.rr; omega) rfl env he
    rw [w3_i] at this
    exact this
  refine j_iconst K dX4_build_0 ?_
  refine z_istore_n K dX4_build_1 rfl (by decide) rfl ?_
  exact go _ ⟨rfl, rfl, rfl, rfl, trivial⟩

