/-! ===== the reference: times ===== -/
theorem tw_free {w : tW} {m f u : Int} (hB : WfB (w 0)) (hm : 0 ≤ m ∧ m ≤ 3) (hf : 0 ≤ f ∧ f ≤ 100000) (hu : 1 ≤ u ∧ u ≤ 30) : tMi yX4_free cX4_free 9 .int 1 [.int (iI m), .int (iI f), .int (iI u)] w (fun v w' => v = sFree (w 0) m f u ∧ w' = w) := by
  have hb0 := (hB m hm.1 hm.2).1
  have hbi := (hB m hm.1 hm.2).2
  refine zMet.of (by decide) (Nat.le_of_ble_eq_true rfl) fun X K => ?_
  have outer : ∀ (M : Nat) (t : Int), f ≤ t → t ≤ 100460 → (100460 - t).toNat < M → (∀ z : Int, f ≤ z → z < t → ∃ i : Int, 0 ≤ i ∧ i < sBn (w 0) m ∧ hind (w 0) m u z i) → ∀ env, zsub env [(0, .ref 1000), (1, .int (iI m)), (3, .int (iI u)), (4, .int (iI t)), (5, .int (iI 1))] → zW X (zPi fun x h' => ∃ v w', x = iI v ∧ h' = tH w' ∧ (v = sFree (w 0) m f u ∧ w' = w)) (tH w) 0 0 6 env [] := by
    intro M
    induction M with
    | zero => intro t _ _ h; omega
    | succ M ih =>
      intro t0 hf0 hle hM hJ0 env he
      refine zW.cut he ?_
      have inner : ∀ (r : Nat) (k t b : Int), 0 ≤ k → k + r = sBn (w 0) m → t0 ≤ t → t ≤ 100460 → (∀ z : Int, f ≤ z → z < t → ∃ i : Int, 0 ≤ i ∧ i < sBn (w 0) m ∧ hind (w 0) m u z i) → (b = 0 ∧ t = t0 ∧ (∀ i : Int, 0 ≤ i → i < k → ¬ hind (w 0) m u t0 i)) ∨ (b = 1 ∧ t0 < t) → ∀ env, zsub env [(0, .ref 1000), (1, .int (iI m)), (3, .int (iI u)), (4, .int (iI t)), (5, .int (iI b)), (6, .int (iI k))] → zW X (zPi fun x h' => ∃ v w', x = iI v ∧ h' = tH w' ∧ (v = sFree (w 0) m f u ∧ w' = w)) (tH w) 0 0 17 env [] := by
        intro r
        induction r with
        | zero =>
          intro k t b k0 hk ht0 htl hJ hbt env he
          refine zW.cut he ?_
          (try dsimp only [sRel, sDue, sWt, sLen, sSeq, sJb, sMc, sDu, sFa, sIx, sSu, sBn, sBf, sBl, sOn, sOr] at *)
          rcases hbt with ⟨rfl, rfl, hno⟩ | ⟨rfl, hlt⟩
          · refine z_iload K dX4_free_17 rfl ?_
            refine z_aload_n K dX4_free_19 rfl rfl rfl ?_
            refine t_geta K fd_X4_9_0 rfl dX4_free_20 ?_
            refine j_sipush K dX4_free_23 (by decide +kernel) ?_
            refine z_iload_n K dX4_free_26 rfl rfl ?_
            refine j_iadd K dX4_free_27 ?_
            refine t_ild K 0 203 rfl rfl rfl (by omega) (by omega) rfl dX4_free_28 ?_
            refine j_icmp_ge (tgt := 98) K dX4_free_29 rfl (by omega) (by omega) (fun c_29 => ?_) (fun c_29 => ?_)
            · refine z_goto (tgt := 6) K dX4_free_98 rfl ?_
              refine z_iload K dX4_free_6 rfl ?_
              refine j_if_eq (tgt := 101) K dX4_free_8 rfl (by omega) (fun c_8 => ?_) (fun c_8 => ?_)
              · refine z_iload K dX4_free_101 rfl ?_
                exact t_iret K (Nat.le_refl _) (Nat.le_refl _) (⟨(isFree.eq ⟨hf0, fun i i0 i1 => hno i i0 (by (try dsimp only [sRel, sDue, sWt, sLen, sSeq, sJb, sMc, sDu, sFa, sIx, sSu, sBn, sBf, sBl, sOn, sOr] at *); omega), hJ0⟩).symm, rfl⟩) dX4_free_103
              · exact absurd rfl c_8
            · exact absurd c_29 (by omega)
          · refine z_iload K dX4_free_17 rfl ?_
            refine z_aload_n K dX4_free_19 rfl rfl rfl ?_
            refine t_geta K fd_X4_9_0 rfl dX4_free_20 ?_
            refine j_sipush K dX4_free_23 (by decide +kernel) ?_
            refine z_iload_n K dX4_free_26 rfl rfl ?_
            refine j_iadd K dX4_free_27 ?_
            refine t_ild K 0 203 rfl rfl rfl (by omega) (by omega) rfl dX4_free_28 ?_
            refine j_icmp_ge (tgt := 98) K dX4_free_29 rfl (by omega) (by omega) (fun c_29 => ?_) (fun c_29 => ?_)
            · refine z_goto (tgt := 6) K dX4_free_98 rfl ?_
              exact ih t (by omega) (by omega) (by omega) hJ _ ⟨rfl, rfl, rfl, rfl, rfl, trivial⟩
            · exact absurd c_29 (by omega)
        | succ r ihr =>
          intro k t b k0 hk ht0 htl hJ hbt env he
          refine zW.cut he ?_
          have hkn : k < sBn (w 0) m := by omega
          have hbk := hbi k k0 hkn
          (try dsimp only [sRel, sDue, sWt, sLen, sSeq, sJb, sMc, sDu, sFa, sIx, sSu, sBn, sBf, sBl, sOn, sOr] at *)
          refine z_iload K dX4_free_17 rfl ?_
          refine z_aload_n K dX4_free_19 rfl rfl rfl ?_
          refine t_geta K fd_X4_9_0 rfl dX4_free_20 ?_
          refine j_sipush K dX4_free_23 (by decide +kernel) ?_
          refine z_iload_n K dX4_free_26 rfl rfl ?_
          refine j_iadd K dX4_free_27 ?_
          refine t_ild K 0 203 rfl rfl rfl (by omega) (by omega) rfl dX4_free_28 ?_
          refine j_icmp_ge (tgt := 98) K dX4_free_29 rfl (by omega) (by omega) (fun c_29 => ?_) (fun c_29 => ?_)
          · exact absurd c_29 (by omega)
          · refine z_aload_n K dX4_free_32 rfl rfl rfl ?_
            refine t_geta K fd_X4_9_0 rfl dX4_free_33 ?_
            refine j_sipush K dX4_free_36 (by decide +kernel) ?_
            refine j_iconst K dX4_free_39 ?_
            refine z_iload_n K dX4_free_40 rfl rfl ?_
            refine j_imul K dX4_free_41 ?_
            refine j_iadd K dX4_free_42 ?_
            refine z_iload K dX4_free_43 rfl ?_
            refine j_iadd K dX4_free_45 ?_
            refine t_ild K 0 203 rfl rfl rfl (by omega) (by omega) rfl dX4_free_46 ?_
            refine z_istore K dX4_free_47 (by decide) rfl ?_
            refine z_iload K dX4_free_49 rfl ?_
            refine z_aload_n K dX4_free_51 rfl rfl rfl ?_
            refine t_geta K fd_X4_9_0 rfl dX4_free_52 ?_
            refine j_sipush K dX4_free_55 (by decide +kernel) ?_
            refine j_iconst K dX4_free_58 ?_
            refine z_iload_n K dX4_free_59 rfl rfl ?_
            refine j_imul K dX4_free_60 ?_
            refine j_iadd K dX4_free_61 ?_
            refine z_iload K dX4_free_62 rfl ?_
            refine j_iadd K dX4_free_64 ?_
            refine t_ild K 0 203 rfl rfl rfl (by omega) (by omega) rfl dX4_free_65 ?_
            refine j_iadd K dX4_free_66 ?_
            refine z_istore K dX4_free_67 (by decide) rfl ?_
            refine z_iload K dX4_free_69 rfl ?_
            refine z_iload K dX4_free_71 rfl ?_
            refine z_iload_n K dX4_free_73 rfl rfl ?_
            refine j_iadd K dX4_free_74 ?_
            refine j_icmp_ge (tgt := 92) K dX4_free_75 rfl (by omega) (by omega) (fun c_75 => ?_) (fun c_75 => ?_)
            · refine j_iinc K dX4_free_92 rfl (by decide) rfl ?_
              refine z_goto (tgt := 17) K dX4_free_95 rfl ?_
              first | exact ihr (k + 1) t b (by omega) (by omega) (by omega) (by omega) hJ (hbt.imp (fun ⟨b0, bt, hno⟩ => ⟨b0, bt, fun i i0 i1 hh => by (rcases (by omega : i < k ∨ i = k) with q | q <;> first | exact hno i i0 q hh | (subst q; unfold hind at hh; (try dsimp only [sRel, sDue, sWt, sLen, sSeq, sJb, sMc, sDu, sFa, sIx, sSu, sBn, sBf, sBl, sOn, sOr] at *); omega))⟩) id) _ ⟨rfl, rfl, rfl, rfl, rfl, rfl, trivial⟩ | exact ihr (k + 1) (sBf (w 0) m k + sBl (w 0) m k) 1 (by omega) (by omega) (by (try dsimp only [sRel, sDue, sWt, sLen, sSeq, sJb, sMc, sDu, sFa, sIx, sSu, sBn, sBf, sBl, sOn, sOr] at *); omega) (by (try dsimp only [sRel, sDue, sWt, sLen, sSeq, sJb, sMc, sDu, sFa, sIx, sSu, sBn, sBf, sBl, sOn, sOr] at *); omega) (fun z z0 z1 => by (rcases Int.lt_or_le z t with q | q <;> first | exact hJ z z0 q | exact ⟨k, k0, hkn, by unfold hind; (try dsimp only [sRel, sDue, sWt, sLen, sSeq, sJb, sMc, sDu, sFa, sIx, sSu, sBn, sBf, sBl, sOn, sOr] at *); omega⟩)) (Or.inr ⟨rfl, by (try dsimp only [sRel, sDue, sWt, sLen, sSeq, sJb, sMc, sDu, sFa, sIx, sSu, sBn, sBf, sBl, sOn, sOr] at *); rcases hbt with hbt | hbt <;> omega⟩) _ ⟨rfl, rfl, rfl, rfl, rfl, rfl, trivial⟩
            · refine z_iload K dX4_free_78 rfl ?_
              refine z_iload K dX4_free_80 rfl ?_
              refine j_icmp_ge (tgt := 92) K dX4_free_82 rfl (by omega) (by omega) (fun c_82 => ?_) (fun c_82 => ?_)
              · refine j_iinc K dX4_free_92 rfl (by decide) rfl ?_
                refine z_goto (tgt := 17) K dX4_free_95 rfl ?_
                first | exact ihr (k + 1) t b (by omega) (by omega) (by omega) (by omega) hJ (hbt.imp (fun ⟨b0, bt, hno⟩ => ⟨b0, bt, fun i i0 i1 hh => by (rcases (by omega : i < k ∨ i = k) with q | q <;> first | exact hno i i0 q hh | (subst q; unfold hind at hh; (try dsimp only [sRel, sDue, sWt, sLen, sSeq, sJb, sMc, sDu, sFa, sIx, sSu, sBn, sBf, sBl, sOn, sOr] at *); omega))⟩) id) _ ⟨rfl, rfl, rfl, rfl, rfl, rfl, trivial⟩ | exact ihr (k + 1) (sBf (w 0) m k + sBl (w 0) m k) 1 (by omega) (by omega) (by (try dsimp only [sRel, sDue, sWt, sLen, sSeq, sJb, sMc, sDu, sFa, sIx, sSu, sBn, sBf, sBl, sOn, sOr] at *); omega) (by (try dsimp only [sRel, sDue, sWt, sLen, sSeq, sJb, sMc, sDu, sFa, sIx, sSu, sBn, sBf, sBl, sOn, sOr] at *); omega) (fun z z0 z1 => by (rcases Int.lt_or_le z t with q | q <;> first | exact hJ z z0 q | exact ⟨k, k0, hkn, by unfold hind; (try dsimp only [sRel, sDue, sWt, sLen, sSeq, sJb, sMc, sDu, sFa, sIx, sSu, sBn, sBf, sBl, sOn, sOr] at *); omega⟩)) (Or.inr ⟨rfl, by (try dsimp only [sRel, sDue, sWt, sLen, sSeq, sJb, sMc, sDu, sFa, sIx, sSu, sBn, sBf, sBl, sOn, sOr] at *); rcases hbt with hbt | hbt <;> omega⟩) _ ⟨rfl, rfl, rfl, rfl, rfl, rfl, trivial⟩
              · refine z_iload K dX4_free_85 rfl ?_
                refine z_istore K dX4_free_87 (by decide) rfl ?_
                refine j_iconst K dX4_free_89 ?_
                refine z_istore K dX4_free_90 (by decide) rfl ?_
                refine j_iinc K dX4_free_92 rfl (by decide) rfl ?_
                refine z_goto (tgt := 17) K dX4_free_95 rfl ?_
                first | exact ihr (k + 1) t b (by omega) (by omega) (by omega) (by omega) hJ (hbt.imp (fun ⟨b0, bt, hno⟩ => ⟨b0, bt, fun i i0 i1 hh => by (rcases (by omega : i < k ∨ i = k) with q | q <;> first | exact hno i i0 q hh | (subst q; unfold hind at hh; (try dsimp only [sRel, sDue, sWt, sLen, sSeq, sJb, sMc, sDu, sFa, sIx, sSu, sBn, sBf, sBl, sOn, sOr] at *); omega))⟩) id) _ ⟨rfl, rfl, rfl, rfl, rfl, rfl, trivial⟩ | exact ihr (k + 1) (sBf (w 0) m k + sBl (w 0) m k) 1 (by omega) (by omega) (by (try dsimp only [sRel, sDue, sWt, sLen, sSeq, sJb, sMc, sDu, sFa, sIx, sSu, sBn, sBf, sBl, sOn, sOr] at *); omega) (by (try dsimp only [sRel, sDue, sWt, sLen, sSeq, sJb, sMc, sDu, sFa, sIx, sSu, sBn, sBf, sBl, sOn, sOr] at *); omega) (fun z z0 z1 => by (rcases Int.lt_or_le z t with q | q <;> first | exact hJ z z0 q | exact ⟨k, k0, hkn, by unfold hind; (try dsimp only [sRel, sDue, sWt, sLen, sSeq, sJb, sMc, sDu, sFa, sIx, sSu, sBn, sBf, sBl, sOn, sOr] at *); omega⟩)) (Or.inr ⟨rfl, by (try dsimp only [sRel, sDue, sWt, sLen, sSeq, sJb, sMc, sDu, sFa, sIx, sSu, sBn, sBf, sBl, sOn, sOr] at *); rcases hbt with hbt | hbt <;> omega⟩) _ ⟨rfl, rfl, rfl, rfl, rfl, rfl, trivial⟩
      refine z_iload K dX4_free_6 rfl ?_
      refine j_if_eq (tgt := 101) K dX4_free_8 rfl (by omega) (fun c_8 => ?_) (fun c_8 => ?_)
      · exact absurd c_8 (by omega)
      · refine j_iconst K dX4_free_11 ?_
        refine z_istore K dX4_free_12 (by decide) rfl ?_
        refine j_iconst K dX4_free_14 ?_
        refine z_istore K dX4_free_15 (by decide) rfl ?_
        exact inner (sBn (w 0) m).toNat 0 t0 0 (by omega) (by omega) (by omega) (by omega) hJ0 (Or.inl ⟨rfl, rfl, fun i i0 i1 => by omega⟩) _ ⟨rfl, rfl, rfl, rfl, rfl, rfl, trivial⟩
  refine z_iload_n K dX4_free_0 rfl rfl ?_
  refine z_istore K dX4_free_1 (by decide) rfl ?_
  refine j_iconst K dX4_free_3 ?_
  refine z_istore K dX4_free_4 (by decide) rfl ?_
  exact outer ((100460 - f).toNat + 1) f (by omega) (by omega) (by omega) (fun z z0 z1 => by omega) _ ⟨rfl, rfl, rfl, rfl, rfl, trivial⟩
theorem tw_findTime {w : tW} {k : Int} (hA : WfA (w 0)) (hO : WfO (w 0)) (ho : ∀ m : Nat, m < 4 → 0 ≤ w 13 m ∧ w 13 m ≤ 1) (hk : 0 ≤ k ∧ k < w 0 1) (hd : -1 ≤ w 14 0 ∧ w 14 0 ≤ 100) (hu : 0 ≤ w 15 0 ∧ w 15 0 ≤ 3000)
    (hb : sBef (w 0) k = -1 ∨ (0 ≤ w 12 (sBef (w 0) k).toNat ∧ w 12 (sBef (w 0) k).toNat ≤ 10000)) (ha : sAh (w 0) (w 13) k = -1 ∨ (0 ≤ w 12 (sAh (w 0) (w 13) k).toNat ∧ w 12 (sAh (w 0) (w 13) k).toNat ≤ 10000)) :
    tMv yX4_findTime cX4_findTime 5 4 [.int (iI k)] w (fun w' => w' = tset (tset w 11 k.toNat (sRdy (w 0) (w 13) (fun i => w 12 i.toNat) k)) 12 k.toNat (sFree (w 0) (sMc (w 0) k) (sFrom (w 14 0) (w 15 0) k (sRdy (w 0) (w 13) (fun i => w 12 i.toNat) k)) (sDu (w 0) k))) := by
  obtain ⟨a1, a2, a3, a4, a5, a6⟩ := hA.2.1.2 k hk.1 hk.2
  have h20 := hA.2.1.1
  have h5 := hA.1.1
  have hrel := (hA.1.2 _ a1.1 a1.2).1
  have hbo := sBef_ok hA hk.1 hk.2
  have hao := sAh_ok (o := w 13) hA hO hk.1 hk.2
  have hdb : sBef (w 0) k = -1 ∨ (1 ≤ sDu (w 0) (sBef (w 0) k) ∧ sDu (w 0) (sBef (w 0) k) ≤ 30) := hbo.imp id fun q => (hA.2.1.2 _ q.1.1 q.1.2).2.2.1
  have hda : sAh (w 0) (w 13) k = -1 ∨ ((1 ≤ sDu (w 0) (sAh (w 0) (w 13) k) ∧ sDu (w 0) (sAh (w 0) (w 13) k) ≤ 30) ∧ (0 ≤ sFa (w 0) (sAh (w 0) (w 13) k) ∧ sFa (w 0) (sAh (w 0) (w 13) k) ≤ 2) ∧ (0 ≤ sFa (w 0) k ∧ sFa (w 0) k ≤ 2) ∧ 0 ≤ sSu (w 0) (sAh (w 0) (w 13) k) k ∧ sSu (w 0) (sAh (w 0) (w 13) k) k ≤ 9) := hao.imp id fun q => ⟨(hA.2.1.2 _ q.2.1.1 q.2.1.2).2.2.1, hA.su q.2.1 hk⟩
  have hB := hA.2.2.2.2.2
  have hbo1 : sBef (w 0) k = -1 ∨ (0 ≤ sBef (w 0) k ∧ sBef (w 0) k < w 0 1) := hbo.imp id fun q => q.1
  have hao1 : sAh (w 0) (w 13) k = -1 ∨ (0 ≤ sAh (w 0) (w 13) k ∧ sAh (w 0) (w 13) k < w 0 1) := hao.imp id fun q => q.2.1
  generalize hR : sRdy (w 0) (w 13) (fun i => w 12 i.toNat) k = R
  unfold sRdy at hR
  dsimp only at hR
  clear hbo hao
  (try dsimp only [sRel, sDue, sWt, sLen, sSeq, sJb, sMc, sDu, sFa, sIx, sSu, sBn, sBf, sBl, sOn, sOr] at *)
  refine zMet.of (by decide) (Nat.le_of_ble_eq_true rfl) fun X K => ?_
  have s3 : ∀ t : Int, 0 ≤ t ∧ t ≤ 20000 → t = sFrom (w 14 0) (w 15 0) k R → ∀ env, zsub env [(0, .ref 1000), (1, .int (iI k))] → zW X (zPv fun h' => ∃ w', h' = tH w' ∧ (w' = tset (tset w 11 k.toNat R) 12 k.toNat (sFree (w 0) (w 0 (62 + k).toNat) (sFrom (w 14 0) (w 15 0) k R) (w 0 (82 + k).toNat)))) (tH (tset w 11 k.toNat R)) 0 0 105 env [.int (iI t)] := by
    intro t ht e env he
    refine zW.cut he ?_
    have e0 : ∀ i, tset w 11 k.toNat R 0 i = w 0 i := fun i => tset_f (by decide)
    refine z_istore_n K dX4_findTime_105 rfl (by decide) rfl ?_
    refine z_aload_n K dX4_findTime_106 rfl rfl rfl ?_
    refine t_geta K fd_X4_29_0 rfl dX4_findTime_107 ?_
    refine z_iload_n K dX4_findTime_110 rfl rfl ?_
    refine z_aload_n K dX4_findTime_111 rfl rfl rfl ?_
    refine z_aload_n K dX4_findTime_112 rfl rfl rfl ?_
    refine t_geta K fd_X4_9_0 rfl dX4_findTime_113 ?_
    refine j_bipush K dX4_findTime_116 (by decide +kernel) ?_
    refine z_iload_n K dX4_findTime_118 rfl rfl ?_
    refine j_iadd K dX4_findTime_119 ?_
    refine t_ild K 0 203 rfl rfl rfl (by omega) (by omega) rfl dX4_findTime_120 ?_
    rw [e0]
    refine z_iload_n K dX4_findTime_121 rfl rfl ?_
    refine z_aload_n K dX4_findTime_122 rfl rfl rfl ?_
    refine t_geta K fd_X4_9_0 rfl dX4_findTime_123 ?_
    refine j_bipush K dX4_findTime_126 (by decide +kernel) ?_
    refine z_iload_n K dX4_findTime_128 rfl rfl ?_
    refine j_iadd K dX4_findTime_129 ?_
    refine t_ild K 0 203 rfl rfl rfl (by omega) (by omega) rfl dX4_findTime_130 ?_
    rw [e0]
    refine t_callp K (tw_free (w := tset w 11 k.toNat R) hB (by omega) (by omega) (by omega)) cV_X4_178_X4 rfl rfl (by decide) (Nat.le_of_ble_eq_true rfl) (Nat.le_refl _) (Nat.le_refl _) dX4_findTime_131 ?_
    refine t_ist K 12 20 rfl rfl rfl (by omega) (by omega) rfl dX4_findTime_134 ?_
    exact t_vret K (Nat.le_refl _) (Nat.le_refl _) (by rw [← e]; rfl) dX4_findTime_135
  have s2 : ∀ t : Int, 0 ≤ t ∧ t ≤ 20000 → t = R → ∀ env, zsub env [(0, .ref 1000), (1, .int (iI k))] → zW X (zPv fun h' => ∃ w', h' = tH w' ∧ (w' = tset (tset w 11 k.toNat R) 12 k.toNat (sFree (w 0) (w 0 (62 + k).toNat) (sFrom (w 14 0) (w 15 0) k R) (w 0 (82 + k).toNat)))) (tH w) 0 0 77 env [.int (iI t)] := by
    intro t ht e env he
    refine zW.cut he ?_
    have e1 : tset w 11 k.toNat t 14 0 = w 14 0 := tset_f (by decide)
    have e2 : tset w 11 k.toNat t 15 0 = w 15 0 := tset_f (by decide)
    refine z_istore_n K dX4_findTime_77 rfl (by decide) rfl ?_
    refine z_aload_n K dX4_findTime_78 rfl rfl rfl ?_
    refine t_geta K fd_X4_26_0 rfl dX4_findTime_79 ?_
    refine z_iload_n K dX4_findTime_82 rfl rfl ?_
    refine z_iload_n K dX4_findTime_83 rfl rfl ?_
    refine t_ist K 11 20 rfl rfl rfl (by omega) (by omega) rfl dX4_findTime_84 ?_
    refine z_iload_n K dX4_findTime_85 rfl rfl ?_
    refine z_aload_n K dX4_findTime_86 rfl rfl rfl ?_
    refine t_geti K fd_X4_36_0 (by decide) rfl dX4_findTime_87 ?_
    refine j_icmp_ne (tgt := 104) K dX4_findTime_90 rfl (by omega) (by rw [e1]; omega) (fun c_90 => ?_) (fun c_90 => ?_)
    · rw [e1] at c_90
      refine z_iload_n K dX4_findTime_104 rfl rfl ?_
      subst e; exact s3 _ (by omega) (by unfold sFrom; first | rw [if_pos c_90] | rw [if_neg c_90]) _ ⟨rfl, rfl, trivial⟩
    · rw [e1] at c_90
      refine z_iload_n K dX4_findTime_93 rfl rfl ?_
      refine z_aload_n K dX4_findTime_94 rfl rfl rfl ?_
      refine t_geti K fd_X4_175_0 (by decide) rfl dX4_findTime_95 ?_
      rw [e2]
      refine z_calls K (s_max (by omega) (by omega)) cS_X4_167 rfl rfl (by decide) (Nat.le_of_ble_eq_true rfl) (Nat.le_refl _) (Nat.le_refl _) dX4_findTime_98 ?_
      refine z_goto (tgt := 105) K dX4_findTime_101 rfl ?_
      subst e; exact s3 _ (by omega) (by unfold sFrom; first | rw [if_pos c_90] | rw [if_neg c_90]) _ ⟨rfl, rfl, trivial⟩
  have s1 : ∀ t : Int, 0 ≤ t ∧ t ≤ 20000 → t = max (w 0 (2 + w 0 (42 + k).toNat).toNat) (if sBef (w 0) k = -1 then w 0 (2 + w 0 (42 + k).toNat).toNat else w 12 (sBef (w 0) k).toNat + w 0 (82 + sBef (w 0) k).toNat) → ∀ env, zsub env [(0, .ref 1000), (1, .int (iI k)), (4, .int (iI (sAh (w 0) (w 13) k)))] → zW X (zPv fun h' => ∃ w', h' = tH w' ∧ (w' = tset (tset w 11 k.toNat R) 12 k.toNat (sFree (w 0) (w 0 (62 + k).toNat) (sFrom (w 14 0) (w 15 0) k R) (w 0 (82 + k).toNat)))) (tH w) 0 0 48 env [.int (iI t)] := by
    intro t ht e env he
    refine zW.cut he ?_
    rw [← e] at hR
    refine z_istore_n K dX4_findTime_48 rfl (by decide) rfl ?_
    refine z_iload K dX4_findTime_49 rfl ?_
    refine j_iconst K dX4_findTime_51 ?_
    refine j_icmp_ne (tgt := 59) K dX4_findTime_52 rfl (by omega) (by omega) (fun c_52 => ?_) (fun c_52 => ?_)
    · rw [if_neg c_52] at hR
      refine z_iload_n K dX4_findTime_59 rfl rfl ?_
      refine z_aload_n K dX4_findTime_60 rfl rfl rfl ?_
      refine z_iload K dX4_findTime_61 rfl ?_
      refine t_callp K (tw_endOf (by omega)) cV_X4_164_X4 rfl rfl (by decide) (Nat.le_of_ble_eq_true rfl) (Nat.le_refl _) (Nat.le_refl _) dX4_findTime_63 ?_
      refine z_aload_n K dX4_findTime_66 rfl rfl rfl ?_
      refine z_iload K dX4_findTime_67 rfl ?_
      refine z_iload_n K dX4_findTime_69 rfl rfl ?_
      refine t_callp K (tw_setup (by omega) (by omega) (by omega) (by omega)) cV_X4_172_X4 rfl rfl (by decide) (Nat.le_of_ble_eq_true rfl) (Nat.le_refl _) (Nat.le_refl _) dX4_findTime_70 ?_
      refine j_iadd K dX4_findTime_73 ?_
      refine z_calls K (s_max (by omega) (by omega)) cS_X4_167 rfl rfl (by decide) (Nat.le_of_ble_eq_true rfl) (Nat.le_refl _) (Nat.le_refl _) dX4_findTime_74 ?_
      exact s2 _ (by omega) (by omega) _ ⟨rfl, rfl, trivial⟩
    · rw [if_pos c_52] at hR
      refine z_iload_n K dX4_findTime_55 rfl rfl ?_
      refine z_goto (tgt := 77) K dX4_findTime_56 rfl ?_
      exact s2 _ (by omega) (by omega) _ ⟨rfl, rfl, trivial⟩
  refine z_aload_n K dX4_findTime_0 rfl rfl rfl ?_
  refine t_geta K fd_X4_9_0 rfl dX4_findTime_1 ?_
  refine j_iconst K dX4_findTime_4 ?_
  refine z_aload_n K dX4_findTime_5 rfl rfl rfl ?_
  refine t_geta K fd_X4_9_0 rfl dX4_findTime_6 ?_
  refine j_bipush K dX4_findTime_9 (by decide +kernel) ?_
  refine z_iload_n K dX4_findTime_11 rfl rfl ?_
  refine j_iadd K dX4_findTime_12 ?_
  refine t_ild K 0 203 rfl rfl rfl (by omega) (by omega) rfl dX4_findTime_13 ?_
  refine j_iadd K dX4_findTime_14 ?_
  refine t_ild K 0 203 rfl rfl rfl (by omega) (by omega) rfl dX4_findTime_15 ?_
  refine z_istore_n K dX4_findTime_16 rfl (by decide) rfl ?_
  refine z_aload_n K dX4_findTime_17 rfl rfl rfl ?_
  refine z_iload_n K dX4_findTime_18 rfl rfl ?_
  refine t_callp K (tw_before hA (by omega)) cV_X4_151_X4 rfl rfl (by decide) (Nat.le_of_ble_eq_true rfl) (Nat.le_refl _) (Nat.le_refl _) dX4_findTime_19 ?_
  refine z_istore_n K dX4_findTime_22 rfl (by decide) rfl ?_
  refine z_aload_n K dX4_findTime_23 rfl rfl rfl ?_
  refine z_iload_n K dX4_findTime_24 rfl rfl ?_
  refine t_callp K (tw_ahead hA hO ho (by omega)) cV_X4_157_X4 rfl rfl (by decide) (Nat.le_of_ble_eq_true rfl) (Nat.le_refl _) (Nat.le_refl _) dX4_findTime_25 ?_
  refine z_istore K dX4_findTime_28 (by decide) rfl ?_
  refine z_iload_n K dX4_findTime_30 rfl rfl ?_
  refine j_iconst K dX4_findTime_31 ?_
  refine j_icmp_ne (tgt := 39) K dX4_findTime_32 rfl (by omega) (by omega) (fun c_32 => ?_) (fun c_32 => ?_)
  · refine z_iload_n K dX4_findTime_39 rfl rfl ?_
    refine z_aload_n K dX4_findTime_40 rfl rfl rfl ?_
    refine z_iload_n K dX4_findTime_41 rfl rfl ?_
    refine t_callp K (tw_endOf (by omega)) cV_X4_164_X4 rfl rfl (by decide) (Nat.le_of_ble_eq_true rfl) (Nat.le_refl _) (Nat.le_refl _) dX4_findTime_42 ?_
    refine z_calls K (s_max (by omega) (by omega)) cS_X4_167 rfl rfl (by decide) (Nat.le_of_ble_eq_true rfl) (Nat.le_refl _) (Nat.le_refl _) dX4_findTime_45 ?_
    exact s1 _ (by omega) (by first | (rw [if_neg c_32]; done) | (rw [if_pos c_32]; omega)) _ ⟨rfl, rfl, rfl, trivial⟩
  · refine z_iload_n K dX4_findTime_35 rfl rfl ?_
    refine z_goto (tgt := 48) K dX4_findTime_36 rfl ?_
    exact s1 _ (by omega) (by first | (rw [if_neg c_32]; done) | (rw [if_pos c_32]; omega)) _ ⟨rfl, rfl, rfl, trivial⟩

