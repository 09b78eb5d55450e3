/-! ===== the reference: findSwaps ===== -/
/-- the swaps of the first n operations of the path -/
def swI (s o rd st : Nat → Int) (n : Nat) (i : Int) : Prop := ∃ j : Nat, j + 1 < n ∧ sMc s (pthF s o rd st j) = sMc s (pthF s o rd st (j + 1)) ∧ 5 * sMc s (pthF s o rd st j) + sPos s (pthF s o rd st j) = i
theorem swI_s {s o rd st : Nat → Int} {n : Nat} {i : Int} : swI s o rd st (n + 2) i ↔ swI s o rd st (n + 1) i ∨ (sMc s (pthF s o rd st n) = sMc s (pthF s o rd st (n + 1)) ∧ 5 * sMc s (pthF s o rd st n) + sPos s (pthF s o rd st n) = i) := by
  constructor
  · rintro ⟨j, h1, h2⟩
    by_cases e : j = n
    · subst e; exact Or.inr h2
    · exact Or.inl ⟨j, by omega, h2⟩
  · rintro (⟨j, h1, h2⟩ | h2)
    · exact ⟨j, by omega, h2⟩
    · exact ⟨n, by omega, h2⟩
/-- the row of swaps, by a row of 0 and 1 -/
def swB (s o rd st : Nat → Int) (n : Nat) (b : Nat → Int) : Prop := ∀ i : Nat, i < 20 → (b i = 0 ∨ b i = 1) ∧ (b i = 1 ↔ swI s o rd st n i)
theorem nar_1 : vp_nar .boolean (iI 1) = iI 1 := by decide +kernel
theorem nar_0 : vp_nar .boolean (iI 0) = iI 0 := by decide +kernel
theorem tw_findSwaps {w : tW} (hA : WfA (w 0)) (hO : WfO (w 0)) (ho : ∀ m : Nat, m < 4 → 0 ≤ w 13 m ∧ w 13 m ≤ 1) (h14 : w 14 0 = -1) (hu : 0 ≤ w 15 0 ∧ w 15 0 ≤ 3000) (hac : ∀ rd st, fT w 500 rd st → cntU st (w 0 1).toNat = 0) :
    tMv yX4_findSwaps cX4_findSwaps 3 7 [] w (fun w' => ∃ rd st, fT w 500 rd st ∧ Fr [11, 12, 16, 17, 26] w w' ∧ swB (w 0) (w 13) rd st (pthS (w 0) (w 13) rd st).length (w' 26) ∧ ∀ i : Nat, i < (pthS (w 0) (w 13) rd st).length → 0 ≤ pthF (w 0) (w 13) rd st i ∧ pthF (w 0) (w 13) rd st i < w 0 1) := by
  have h20 := hA.2.1.1
  refine zMet.of (by decide) (Nat.le_of_ble_eq_true rfl) fun X K => ?_
  have hfp := tw_findPath (w := w) (bb := 500) (by omega) (Or.inl h14) hA hO ho (by omega) hu hac
  have c4 : ∀ (rd st : Nat → Int) (W : tW), fT w 500 rd st → Fr [11, 12, 16, 17] w W → W 17 0 = (pthS (w 0) (w 13) rd st).length → (pthS (w 0) (w 13) rd st).length ≤ 20 → (∀ i : Nat, i < (pthS (w 0) (w 13) rd st).length → (pthS (w 0) (w 13) rd st)[i]? = some (W 16 i) ∧ 0 ≤ W 16 i ∧ W 16 i < w 0 1) → ∀ env, zsub env [(0, .ref 1000)] → zW X (zPv fun h' => ∃ w', h' = tH w' ∧ ∃ rd st, fT w 500 rd st ∧ Fr [11, 12, 16, 17, 26] w w' ∧ swB (w 0) (w 13) rd st (pthS (w 0) (w 13) rd st).length (w' 26) ∧ ∀ i : Nat, i < (pthS (w 0) (w 13) rd st).length → 0 ≤ pthF (w 0) (w 13) rd st i ∧ pthF (w 0) (w 13) rd st i < w 0 1) (tH W) 0 0 4 env [] := by
    intro rd st W hT hF h17 hl20 hp env he
    generalize hln : (pthS (w 0) (w 13) rd st).length = len at *
    have W0 : W 0 = w 0 := hF 0 (by decide)
    have hpf : ∀ j : Nat, j < len → W 16 (len - 1 - j) = pthF (w 0) (w 13) rd st j ∧ 0 ≤ pthF (w 0) (w 13) rd st j ∧ pthF (w 0) (w 13) rd st j < w 0 1 := fun j hj => by
      obtain ⟨b1, b2, b3⟩ := hp (len - 1 - j) (by omega)
      have e : pthF (w 0) (w 13) rd st j = W 16 (len - 1 - j) := by unfold pthF; rw [hln, b1]; rfl
      rw [e]
      exact ⟨rfl, b2, b3⟩
    have fin : ∀ b, swB (w 0) (w 13) rd st len b → (zPv fun h' => ∃ w', h' = tH w' ∧ ∃ rd st, fT w 500 rd st ∧ Fr [11, 12, 16, 17, 26] w w' ∧ swB (w 0) (w 13) rd st (pthS (w 0) (w 13) rd st).length (w' 26) ∧ ∀ i : Nat, i < (pthS (w 0) (w 13) rd st).length → 0 ≤ pthF (w 0) (w 13) rd st i ∧ pthF (w 0) (w 13) rd st i < w 0 1) (.inl none) (tH (wF W 26 b)) := fun b hb => ⟨rfl, wF W 26 b, rfl, rd, st, hT, fun f hf => (wF_n (fun e => hf (by rw [e]; decide))).trans (hF f (fun e => hf (by revert e; simp; omega))), by rw [hln, wF_s]; exact hb, by rw [hln]; exact fun i hi => (hpf i hi).2⟩
    generalize (zPv fun h' => ∃ w', h' = tH w' ∧ ∃ rd st, fT w 500 rd st ∧ Fr [11, 12, 16, 17, 26] w w' ∧ swB (w 0) (w 13) rd st (pthS (w 0) (w 13) rd st).length (w' 26) ∧ ∀ i : Nat, i < (pthS (w 0) (w 13) rd st).length → 0 ≤ pthF (w 0) (w 13) rd st i ∧ pthF (w 0) (w 13) rd st i < w 0 1) = Q at *
    have pairs : ∀ (r j : Nat), j + 1 + r = max 1 len → ∀ b, swB (w 0) (w 13) rd st (j + 1) b → ∀ env, zsub env [(0, .ref 1000), (1, .int (iI (j + 1)))] → zW X Q (tH (wF W 26 b)) 0 0 27 env [] := by
      intro r
      induction r with
      | zero =>
        intro j hj b hb env he
        refine zW.cut he ?_
        have fn := fin b (fun i hi => ⟨(hb i hi).1, by
          rw [(hb i hi).2]
          by_cases e : j + 1 = len
          · rw [e]
          · constructor
            · rintro ⟨x, x1, -⟩; omega
            · rintro ⟨x, x1, -⟩; omega⟩)
        have e17 : wF W 26 b 17 0 = len := by rw [wF_n (by decide)]; exact h17
        refine z_iload_n K dX4_findSwaps_27 rfl rfl ?_
        refine z_aload_n K dX4_findSwaps_28 rfl rfl rfl ?_
        refine t_geti K fd_X4_199_0 (by decide) rfl dX4_findSwaps_29 ?_
        rw [e17]
        refine j_icmp_ge (tgt := 120) K dX4_findSwaps_32 rfl (by omega) (by omega) (fun c_32 => ?_) (fun c_32 => ?_)
        · exact z_vret K (by omega) (by omega) fn dX4_findSwaps_120
        · exact absurd c_32 (by omega)
      | succ r ih =>
        intro j hj b hb env he
        refine zW.cut he ?_
        have e17 : wF W 26 b 17 0 = len := by rw [wF_n (by decide)]; exact h17
        have e16 : wF W 26 b 16 = W 16 := wF_n (by decide)
        have e00 : wF W 26 b 0 = w 0 := by rw [wF_n (by decide)]; exact W0
        obtain ⟨p1, p2, p3⟩ := hpf j (by omega)
        obtain ⟨q1, q2, q3⟩ := hpf (j + 1) (by omega)
        have on1 := tw_onPath (w := wF W 26 b) (i := (j : Int) + 1) (by rw [e17]; omega) (by rw [e17]; omega)
        rw [e16, e17, show ((len : Int) - 1 - ((j : Int) + 1)).toNat = len - 1 - (j + 1) by omega, q1] at on1
        have on0 := tw_onPath (w := wF W 26 b) (i := (j : Int) + 1 - 1) (by rw [e17]; omega) (by rw [e17]; omega)
        rw [e16, e17, show ((len : Int) - 1 - ((j : Int) + 1 - 1)).toNat = len - 1 - j by omega, p1] at on0
        have ps1 := tw_pos (w := wF W 26 b) (k := pthF (w 0) (w 13) rd st (j + 1)) (by rw [e00]; exact hA) (by rw [e00]; exact hO) (by rw [e00]; exact ⟨q2, q3⟩)
        have ps0 := tw_pos (w := wF W 26 b) (k := pthF (w 0) (w 13) rd st j) (by rw [e00]; exact hA) (by rw [e00]; exact hO) (by rw [e00]; exact ⟨p2, p3⟩)
        rw [e00] at ps1 ps0
        have mr := (hA.2.1.2 _ p2 p3).2.1
        have mr1 := (hA.2.1.2 _ q2 q3).2.1
        have sr := sPos_r (w 0) (pthF (w 0) (w 13) rd st j)
        have sr1 := sPos_r (w 0) (pthF (w 0) (w 13) rd st (j + 1))
        have no : sMc (w 0) (pthF (w 0) (w 13) rd st j) ≠ sMc (w 0) (pthF (w 0) (w 13) rd st (j + 1)) → ∀ env, zsub env [(0, .ref 1000), (1, .int (iI ((j : Int) + 1 + 1)))] → zW X Q (tH (wF W 26 b)) 0 0 27 env [] := fun hne => ih (j + 1) (by omega) b (fun i hi => ⟨(hb i hi).1, by
          rw [(hb i hi).2, swI_s]
          exact ⟨Or.inl, fun q => q.elim id (fun q => absurd q.1 hne)⟩⟩)
        have yes : sMc (w 0) (pthF (w 0) (w 13) rd st j) = sMc (w 0) (pthF (w 0) (w 13) rd st (j + 1)) → sPos (w 0) (pthF (w 0) (w 13) rd st (j + 1)) = sPos (w 0) (pthF (w 0) (w 13) rd st j) + 1 ∧ ∀ env, zsub env [(0, .ref 1000), (1, .int (iI ((j : Int) + 1 + 1)))] → zW X Q (tH (wF W 26 (sup b (5 * sMc (w 0) (pthF (w 0) (w 13) rd st (j + 1)) + sPos (w 0) (pthF (w 0) (w 13) rd st j)).toNat 1))) 0 0 27 env [] := fun heq => by
          obtain ⟨p, z0, z1, z2, z3, z4, z5⟩ := pthF_adj hA hO (by rw [hln]; omega) ⟨q2, q3⟩ heq
          refine ⟨by omega, ih (j + 1) (by omega) _ (fun i hi => ?_)⟩
          rw [← heq, swI_s]
          by_cases e : i = (5 * sMc (w 0) (pthF (w 0) (w 13) rd st j) + sPos (w 0) (pthF (w 0) (w 13) rd st j)).toNat
          · rw [e, sup_s]
            exact ⟨Or.inr rfl, fun _ => Or.inr ⟨heq, by omega⟩, fun _ => rfl⟩
          · rw [sup_n e]
            refine ⟨(hb i hi).1, ?_⟩
            rw [(hb i hi).2]
            exact ⟨Or.inl, fun q => q.elim id (fun q => absurd (by omega) e)⟩
        clear ih fin
        generalize pthF (w 0) (w 13) rd st j = a0 at *
        generalize pthF (w 0) (w 13) rd st (j + 1) = a1 at *
        (try dsimp only [sRel, sDue, sWt, sLen, sSeq, sJb, sMc, sDu, sFa, sIx, sSu, sBn, sBf, sBl, sOn, sOr] at *)
        refine z_iload_n K dX4_findSwaps_27 rfl rfl ?_
        refine z_aload_n K dX4_findSwaps_28 rfl rfl rfl ?_
        refine t_geti K fd_X4_199_0 (by decide) rfl dX4_findSwaps_29 ?_
        rw [e17]
        refine j_icmp_ge (tgt := 120) K dX4_findSwaps_32 rfl (by omega) (by omega) (fun c_32 => ?_) (fun c_32 => ?_)
        · exact absurd c_32 (by omega)
        · refine z_aload_n K dX4_findSwaps_35 rfl rfl rfl ?_
          refine t_geta K fd_X4_9_0 rfl dX4_findSwaps_36 ?_
          refine j_bipush K dX4_findSwaps_39 (by decide +kernel) ?_
          refine z_aload_n K dX4_findSwaps_41 rfl rfl rfl ?_
          refine z_iload_n K dX4_findSwaps_42 rfl rfl ?_
          refine t_callp K (on1) cV_X4_205_X4 rfl rfl (by decide) (Nat.le_of_ble_eq_true rfl) (Nat.le_refl _) (Nat.le_refl _) dX4_findSwaps_43 ?_
          refine j_iadd K dX4_findSwaps_46 ?_
          refine t_ild K 0 203 rfl rfl rfl (by omega) (by omega) rfl dX4_findSwaps_47 ?_
          rw [e00]
          refine z_istore_n K dX4_findSwaps_48 rfl (by decide) rfl ?_
          refine z_aload_n K dX4_findSwaps_49 rfl rfl rfl ?_
          refine t_geta K fd_X4_9_0 rfl dX4_findSwaps_50 ?_
          refine j_bipush K dX4_findSwaps_53 (by decide +kernel) ?_
          refine z_aload_n K dX4_findSwaps_55 rfl rfl rfl ?_
          refine z_iload_n K dX4_findSwaps_56 rfl rfl ?_
          refine j_iconst K dX4_findSwaps_57 ?_
          refine j_isub K dX4_findSwaps_58 ?_
          refine t_callp K (on0) cV_X4_205_X4 rfl rfl (by decide) (Nat.le_of_ble_eq_true rfl) (Nat.le_refl _) (Nat.le_refl _) dX4_findSwaps_59 ?_
          refine j_iadd K dX4_findSwaps_62 ?_
          refine t_ild K 0 203 rfl rfl rfl (by omega) (by omega) rfl dX4_findSwaps_63 ?_
          rw [e00]
          refine z_iload_n K dX4_findSwaps_64 rfl rfl ?_
          refine j_icmp_ne (tgt := 114) K dX4_findSwaps_65 rfl (by omega) (by omega) (fun c_65 => ?_) (fun c_65 => ?_)
          · have nx := no c_65
            first | rw [wF_t] | skip
            refine j_iinc K dX4_findSwaps_114 rfl (by decide) rfl ?_
            refine z_goto (tgt := 27) K dX4_findSwaps_117 rfl ?_
            exact nx _ ⟨rfl, rfl, trivial⟩
          · obtain ⟨y1, nx⟩ := yes c_65
            refine z_aload_n K dX4_findSwaps_68 rfl rfl rfl ?_
            refine z_aload_n K dX4_findSwaps_69 rfl rfl rfl ?_
            refine z_iload_n K dX4_findSwaps_70 rfl rfl ?_
            refine t_callp K (on1) cV_X4_205_X4 rfl rfl (by decide) (Nat.le_of_ble_eq_true rfl) (Nat.le_refl _) (Nat.le_refl _) dX4_findSwaps_71 ?_
            refine t_callp K (ps1) cV_X4_147_X4 rfl rfl (by decide) (Nat.le_of_ble_eq_true rfl) (Nat.le_refl _) (Nat.le_refl _) dX4_findSwaps_74 ?_
            refine z_aload_n K dX4_findSwaps_77 rfl rfl rfl ?_
            refine z_aload_n K dX4_findSwaps_78 rfl rfl rfl ?_
            refine z_iload_n K dX4_findSwaps_79 rfl rfl ?_
            refine j_iconst K dX4_findSwaps_80 ?_
            refine j_isub K dX4_findSwaps_81 ?_
            refine t_callp K (on0) cV_X4_205_X4 rfl rfl (by decide) (Nat.le_of_ble_eq_true rfl) (Nat.le_refl _) (Nat.le_refl _) dX4_findSwaps_82 ?_
            refine t_callp K (ps0) cV_X4_147_X4 rfl rfl (by decide) (Nat.le_of_ble_eq_true rfl) (Nat.le_refl _) (Nat.le_refl _) dX4_findSwaps_85 ?_
            refine j_iconst K dX4_findSwaps_88 ?_
            refine j_iadd K dX4_findSwaps_89 ?_
            refine j_icmp_ne (tgt := 114) K dX4_findSwaps_90 rfl (by omega) (by omega) (fun c_90 => ?_) (fun c_90 => ?_)
            · exact absurd y1 c_90
            · refine z_aload_n K dX4_findSwaps_93 rfl rfl rfl ?_
              refine t_geta K fd_X4_64_0 rfl dX4_findSwaps_94 ?_
              refine j_iconst K dX4_findSwaps_97 ?_
              refine z_iload_n K dX4_findSwaps_98 rfl rfl ?_
              refine j_imul K dX4_findSwaps_99 ?_
              refine z_aload_n K dX4_findSwaps_100 rfl rfl rfl ?_
              refine z_aload_n K dX4_findSwaps_101 rfl rfl rfl ?_
              refine z_iload_n K dX4_findSwaps_102 rfl rfl ?_
              refine j_iconst K dX4_findSwaps_103 ?_
              refine j_isub K dX4_findSwaps_104 ?_
              refine t_callp K (on0) cV_X4_205_X4 rfl rfl (by decide) (Nat.le_of_ble_eq_true rfl) (Nat.le_refl _) (Nat.le_refl _) dX4_findSwaps_105 ?_
              refine t_callp K (ps0) cV_X4_147_X4 rfl rfl (by decide) (Nat.le_of_ble_eq_true rfl) (Nat.le_refl _) (Nat.le_refl _) dX4_findSwaps_108 ?_
              refine j_iadd K dX4_findSwaps_111 ?_
              refine j_iconst K dX4_findSwaps_112 ?_
              refine t_zst K 26 20 rfl rfl rfl (by omega) (by omega) rfl nar_1 dX4_findSwaps_113 ?_
              first | rw [wF_t] | skip
              refine j_iinc K dX4_findSwaps_114 rfl (by decide) rfl ?_
              refine z_goto (tgt := 27) K dX4_findSwaps_117 rfl ?_
              exact nx _ ⟨rfl, rfl, trivial⟩
    have clr : ∀ (r i : Nat), i + r = 20 → ∀ b : Nat → Int, (∀ q, q < i → b q = 0) → ∀ env, zsub env [(0, .ref 1000), (1, .int (iI i))] → zW X Q (tH (wF W 26 b)) 0 0 6 env [] := by
      intro r
      induction r with
      | zero =>
        intro i hi b hb env he
        refine zW.cut he ?_
        have nx := pairs (max 1 len - 1) 0 (by omega) b (fun q hq => ⟨Or.inl (hb q (by omega)), by rw [hb q (by omega)]; exact ⟨fun z => by omega, fun ⟨x, x1, _⟩ => by omega⟩⟩)
        have nx : ∀ env, zsub env [(0, .ref 1000), (1, .int (iI 1))] → zW X Q (tH (wF W 26 b)) 0 0 27 env [] := nx
        clear pairs
        refine z_iload_n K dX4_findSwaps_6 rfl rfl ?_
        refine j_bipush K dX4_findSwaps_7 (by decide +kernel) ?_
        refine j_icmp_ge (tgt := 25) K dX4_findSwaps_9 rfl (by omega) (by omega) (fun c_9 => ?_) (fun c_9 => ?_)
        · refine j_iconst K dX4_findSwaps_25 ?_
          refine z_istore_n K dX4_findSwaps_26 rfl (by decide) rfl ?_
          exact nx _ ⟨rfl, rfl, trivial⟩
        · exact absurd c_9 (by omega)
      | succ r ih =>
        intro i hi b hb env he
        refine zW.cut he ?_
        have nx := ih (i + 1) (by omega) (sup b i 0) (fun q hq => by
          by_cases e : q = i
          · rw [e, sup_s]
          · rw [sup_n e]; exact hb q (by omega))
        clear ih pairs
        refine z_iload_n K dX4_findSwaps_6 rfl rfl ?_
        refine j_bipush K dX4_findSwaps_7 (by decide +kernel) ?_
        refine j_icmp_ge (tgt := 25) K dX4_findSwaps_9 rfl (by omega) (by omega) (fun c_9 => ?_) (fun c_9 => ?_)
        · exact absurd c_9 (by omega)
        · refine z_aload_n K dX4_findSwaps_12 rfl rfl rfl ?_
          refine t_geta K fd_X4_64_0 rfl dX4_findSwaps_13 ?_
          refine z_iload_n K dX4_findSwaps_16 rfl rfl ?_
          refine j_iconst K dX4_findSwaps_17 ?_
          refine t_zst K 26 20 rfl rfl rfl (by omega) (by omega) rfl nar_0 dX4_findSwaps_18 ?_
          rw [wF_t, Int.toNat_natCast]
          refine j_iinc K dX4_findSwaps_19 rfl (by decide) rfl ?_
          refine z_goto (tgt := 6) K dX4_findSwaps_22 rfl ?_
          exact nx _ ⟨rfl, rfl, trivial⟩
    have go := clr 20 0 (by omega) (W 26) (fun q hq => by omega)
    rw [wF_i] at go
    have go : ∀ env, zsub env [(0, .ref 1000), (1, .int (iI 0))] → zW X Q (tH W) 0 0 6 env [] := go
    clear clr pairs fin
    refine zW.cut he ?_
    refine j_iconst K dX4_findSwaps_4 ?_
    refine z_istore_n K dX4_findSwaps_5 rfl (by decide) rfl ?_
    exact go _ ⟨rfl, rfl, trivial⟩
  refine z_aload_n K dX4_findSwaps_0 rfl rfl rfl ?_
  refine t_callv K (hfp) cV_X4_202_X4 rfl rfl (by decide) (Nat.le_of_ble_eq_true rfl) (Nat.le_refl _) (Nat.le_refl _) dX4_findSwaps_1 ?_
  rintro W' ⟨rd, st, q1, q2, q3, q4, q5, q6, q7⟩
  exact c4 rd st W' q1 q2 q5 q6 q7 _ ⟨rfl, trivial⟩

