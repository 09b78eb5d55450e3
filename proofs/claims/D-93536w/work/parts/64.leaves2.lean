/-! ===== the component: visits, work, unhindered ===== -/
theorem or01 {a b : Int} (ha : a = 0 ∨ a = 1) (hb : b = 0 ∨ b = 1) : iI a ||| iI b = iI (max a b) := by
  rcases ha with rfl | rfl <;> rcases hb with rfl | rfl <;> decide +kernel
section XLw
variable {b : Nat} {u : tW} {g : zH}
theorem x5_visits {j m : Int} (hA : WfA (u 0)) (hj : 0 ≤ j ∧ j < u 0 0) (hm : -2147483648 ≤ m ∧ m ≤ 2147483647) : zMet yX5_visits (ws_ yX5_visits cX5_visits 4 (some .boolean)) 4 [.ref (b + 32 + j.toNat), .int (iI m)] (sH b u g) (zRet (.int (iI (bP (hasM (u 0) j m (u 0 (17 + j).toNat).toNat)))) (sH b u g)) 0 0 := by
  have h20 := hA.2.1.1
  have h05 := hA.1.1
  have hl := (hA.1.2 j hj.1 hj.2).2.2.2
  refine zMet.of (by decide) (Nat.le_of_ble_eq_true rfl) fun X K => ?_
  (try dsimp only [sRel, sDue, sWt, sLen, sSeq, sJb, sMc, sDu, sFa, sIx, sSu, sBn, sBf, sBl, sOn, sOr] at *)
  have loop : ∀ (r i : Nat), (i : Int) + r = u 0 (17 + j).toNat → ∀ env, zsub env [(0, .ref (b + 32 + j.toNat)), (1, .int (iI m)), (2, .int (iI (bP (hasM (u 0) j m i)))), (3, .int (iI i))] → zW X (zRet (.int (iI (bP (hasM (u 0) j m (u 0 (17 + j).toNat).toNat)))) (sH b u g)) (sH b u g) 0 0 4 env [] := by
    intro r
    induction r with
    | zero =>
      intro i hi env he
      refine zW.cut he ?_
      refine z_iload_n K dX5_visits_4 rfl rfl ?_
      refine z_aload_n K dX5_visits_5 rfl rfl rfl ?_
      refine z_get K fd_X5_16_4 (sH_job ⟨by omega, by omega⟩ (by omega)) rfl dX5_visits_6 ?_
      refine z_callV K (jl_size (sH_jbL ⟨by omega, by omega⟩ (by omega))) cV_X5_20_J2 (sH_jbL ⟨by omega, by omega⟩ (by omega)) rfl rfl rfl (by omega) (by omega) (by omega) (Nat.le_of_ble_eq_true rfl) dX5_visits_9 zrX (zrK ?_)
      refine j_icmp_ge (tgt := 47) K dX5_visits_12 rfl (by omega) (by omega) (fun c_12 => ?_) (fun c_12 => ?_)
      · refine z_iload_n K dX5_visits_47 rfl rfl ?_
        exact z_zret K (iI_b (bP_01 _)) (by omega) (by omega) (⟨by rw [show (u 0 (17 + j).toNat).toNat = i by omega], rfl⟩) dX5_visits_48
      · exact absurd c_12 (by omega)
    | succ r ih =>
      intro i hi env he
      refine zW.cut he ?_
      have hs := hA.2.2.1 j i hj.1 hj.2 (by omega) (by (try dsimp only [sRel, sDue, sWt, sLen, sSeq, sJb, sMc, sDu, sFa, sIx, sSu, sBn, sBf, sBl, sOn, sOr] at *); omega)
      have hk := hA.2.1.2 _ hs.1.1 hs.1.2
      (try dsimp only [sRel, sDue, sWt, sLen, sSeq, sJb, sMc, sDu, sFa, sIx, sSu, sBn, sBf, sBl, sOn, sOr] at *)
      refine z_iload_n K dX5_visits_4 rfl rfl ?_
      refine z_aload_n K dX5_visits_5 rfl rfl rfl ?_
      refine z_get K fd_X5_16_4 (sH_job ⟨by omega, by omega⟩ (by omega)) rfl dX5_visits_6 ?_
      refine z_callV K (jl_size (sH_jbL ⟨by omega, by omega⟩ (by omega))) cV_X5_20_J2 (sH_jbL ⟨by omega, by omega⟩ (by omega)) rfl rfl rfl (by omega) (by omega) (by omega) (Nat.le_of_ble_eq_true rfl) dX5_visits_9 zrX (zrK ?_)
      refine j_icmp_ge (tgt := 47) K dX5_visits_12 rfl (by omega) (by omega) (fun c_12 => ?_) (fun c_12 => ?_)
      · exact absurd c_12 (by omega)
      · refine z_iload_n K dX5_visits_15 rfl rfl ?_
        refine z_aload_n K dX5_visits_16 rfl rfl rfl ?_
        refine z_get K fd_X5_16_4 (sH_job ⟨by omega, by omega⟩ (by omega)) rfl dX5_visits_17 ?_
        refine z_iload_n K dX5_visits_20 rfl rfl ?_
        refine z_callV K (gt_jop ⟨by omega, by omega⟩ (by omega) ⟨by omega, by omega⟩ (by omega)) cV_X5_24_J2 (sH_jbL ⟨by omega, by omega⟩ (by omega)) rfl rfl rfl (by omega) (by omega) (by omega) (Nat.le_of_ble_eq_true rfl) dX5_visits_21 zrX (zrK ?_)
        refine z_castS K (sH_op ⟨by omega, by omega⟩ (by omega)) rfl q558 dX5_visits_24 ?_
        refine z_get K fd_X5_30_5 (sH_op ⟨by omega, by omega⟩ (by omega)) rfl dX5_visits_27 ?_
        refine z_iload_n K dX5_visits_30 rfl rfl ?_
        refine j_icmp_ne (tgt := 38) K dX5_visits_31 rfl (by omega) (by omega) (fun c_31 => ?_) (fun c_31 => ?_)
        · refine j_iconst K dX5_visits_38 ?_
          refine z_ior K dX5_visits_39 ?_
          rw [or01 (bP_01 _) (by omega), show max (bP (hasM (u 0) j m i)) _ = bP (hasM (u 0) j m (i + 1)) from by first | (rw [show bP (hasM (u 0) j m (i + 1)) = 1 from bP_t (Or.inr c_31)]; have := bP_01 (hasM (u 0) j m i); omega) | (rw [show bP (hasM (u 0) j m (i + 1)) = bP (hasM (u 0) j m i) from by by_cases q : hasM (u 0) j m i; (rw [bP_t q, show bP (hasM (u 0) j m (i + 1)) = 1 from bP_t (Or.inl q)]); (rw [bP_f q, show bP (hasM (u 0) j m (i + 1)) = 0 from bP_f (fun z => z.elim q c_31)])]; have := bP_01 (hasM (u 0) j m i); omega)]
          refine z_istore_n K dX5_visits_40 rfl (by decide) rfl ?_
          refine j_iinc K dX5_visits_41 rfl (by decide) rfl ?_
          refine z_goto (tgt := 4) K dX5_visits_44 rfl ?_
          exact ih (i + 1) (by omega) _ ⟨rfl, rfl, rfl, rfl, trivial⟩
        · refine j_iconst K dX5_visits_34 ?_
          refine z_goto (tgt := 39) K dX5_visits_35 rfl ?_
          refine z_ior K dX5_visits_39 ?_
          rw [or01 (bP_01 _) (by omega), show max (bP (hasM (u 0) j m i)) _ = bP (hasM (u 0) j m (i + 1)) from by first | (rw [show bP (hasM (u 0) j m (i + 1)) = 1 from bP_t (Or.inr c_31)]; have := bP_01 (hasM (u 0) j m i); omega) | (rw [show bP (hasM (u 0) j m (i + 1)) = bP (hasM (u 0) j m i) from by by_cases q : hasM (u 0) j m i; (rw [bP_t q, show bP (hasM (u 0) j m (i + 1)) = 1 from bP_t (Or.inl q)]); (rw [bP_f q, show bP (hasM (u 0) j m (i + 1)) = 0 from bP_f (fun z => z.elim q c_31)])]; have := bP_01 (hasM (u 0) j m i); omega)]
          refine z_istore_n K dX5_visits_40 rfl (by decide) rfl ?_
          refine j_iinc K dX5_visits_41 rfl (by decide) rfl ?_
          refine z_goto (tgt := 4) K dX5_visits_44 rfl ?_
          exact ih (i + 1) (by omega) _ ⟨rfl, rfl, rfl, rfl, trivial⟩
  refine j_iconst K dX5_visits_0 ?_
  refine z_istore_n K dX5_visits_1 rfl (by decide) rfl ?_
  refine j_iconst K dX5_visits_2 ?_
  refine z_istore_n K dX5_visits_3 rfl (by decide) rfl ?_
  exact loop (u 0 (17 + j).toNat).toNat 0 (by omega) _ ⟨rfl, rfl, by rw [show bP (hasM (u 0) j m 0) = 0 from bP_f id]; rfl, rfl, trivial⟩
theorem x5_work {j x : Int} (hA : WfA (u 0)) (hj : 0 ≤ j ∧ j < u 0 0) (hx : 0 ≤ x ∧ x ≤ 5) : zMet yX5_work (ws_ yX5_work cX5_work 4 (some .int)) 4 [.ref (b + 32 + j.toNat), .int (iI x)] (sH b u g) (zRet (.int (iI (rst (u 0) j x (u 0 (17 + j).toNat - x).toNat))) (sH b u g)) 0 0 := by
  have h20 := hA.2.1.1
  have h05 := hA.1.1
  have hl := (hA.1.2 j hj.1 hj.2).2.2.2
  refine zMet.of (by decide) (Nat.le_of_ble_eq_true rfl) fun X K => ?_
  (try dsimp only [sRel, sDue, sWt, sLen, sSeq, sJb, sMc, sDu, sFa, sIx, sSu, sBn, sBf, sBl, sOn, sOr] at *)
  have fin : ∀ i : Nat, u 0 (17 + j).toNat ≤ x + i → (i = 0 ∨ x + i = u 0 (17 + j).toNat) → ∀ env, zsub env [(0, .ref (b + 32 + j.toNat)), (2, .int (iI (rst (u 0) j x i))), (3, .int (iI (x + i)))] → zW X (zRet (.int (iI (rst (u 0) j x (u 0 (17 + j).toNat - x).toNat))) (sH b u g)) (sH b u g) 0 0 4 env [] := by
    intro i hi hz env he
    refine zW.cut he ?_
    refine z_iload_n K dX5_work_4 rfl rfl ?_
    refine z_aload_n K dX5_work_5 rfl rfl rfl ?_
    refine z_get K fd_X5_16_4 (sH_job ⟨by omega, by omega⟩ (by omega)) rfl dX5_work_6 ?_
    refine z_callV K (jl_size (sH_jbL ⟨by omega, by omega⟩ (by omega))) cV_X5_20_J2 (sH_jbL ⟨by omega, by omega⟩ (by omega)) rfl rfl rfl (by omega) (by omega) (by omega) (Nat.le_of_ble_eq_true rfl) dX5_work_9 zrX (zrK ?_)
    refine j_icmp_ge (tgt := 38) K dX5_work_12 rfl (by omega) (by omega) (fun c_12 => ?_) (fun c_12 => ?_)
    · refine z_iload_n K dX5_work_38 rfl rfl ?_
      exact z_iret K (by omega) (by omega) (⟨by rw [show (u 0 (17 + j).toNat - x).toNat = i by omega], rfl⟩) dX5_work_39
    · exact absurd c_12 (by omega)
  have loop : ∀ (r i : Nat), (x + i) + r = u 0 (17 + j).toNat → ∀ env, zsub env [(0, .ref (b + 32 + j.toNat)), (2, .int (iI (rst (u 0) j x i))), (3, .int (iI (x + i)))] → zW X (zRet (.int (iI (rst (u 0) j x (u 0 (17 + j).toNat - x).toNat))) (sH b u g)) (sH b u g) 0 0 4 env [] := by
    intro r
    induction r with
    | zero => exact fun i hi => fin i (by omega) (by omega)
    | succ r ih =>
      intro i hi env he
      refine zW.cut he ?_
      have hs := hA.2.2.1 j (x + i) hj.1 hj.2 (by omega) (by (try dsimp only [sRel, sDue, sWt, sLen, sSeq, sJb, sMc, sDu, sFa, sIx, sSu, sBn, sBf, sBl, sOn, sOr] at *); omega)
      have hk := hA.2.1.2 _ hs.1.1 hs.1.2
      have nx := ih (i + 1) (by omega)
      (try dsimp only [sRel, sDue, sWt, sLen, sSeq, sJb, sMc, sDu, sFa, sIx, sSu, sBn, sBf, sBl, sOn, sOr] at *)
      refine z_iload_n K dX5_work_4 rfl rfl ?_
      refine z_aload_n K dX5_work_5 rfl rfl rfl ?_
      refine z_get K fd_X5_16_4 (sH_job ⟨by omega, by omega⟩ (by omega)) rfl dX5_work_6 ?_
      refine z_callV K (jl_size (sH_jbL ⟨by omega, by omega⟩ (by omega))) cV_X5_20_J2 (sH_jbL ⟨by omega, by omega⟩ (by omega)) rfl rfl rfl (by omega) (by omega) (by omega) (Nat.le_of_ble_eq_true rfl) dX5_work_9 zrX (zrK ?_)
      refine j_icmp_ge (tgt := 38) K dX5_work_12 rfl (by omega) (by omega) (fun c_12 => ?_) (fun c_12 => ?_)
      · exact absurd c_12 (by omega)
      · refine z_iload_n K dX5_work_15 rfl rfl ?_
        refine z_aload_n K dX5_work_16 rfl rfl rfl ?_
        refine z_get K fd_X5_16_4 (sH_job ⟨by omega, by omega⟩ (by omega)) rfl dX5_work_17 ?_
        refine z_iload_n K dX5_work_20 rfl rfl ?_
        refine z_callV K (gt_jop ⟨by omega, by omega⟩ (by omega) ⟨by omega, by omega⟩ (by omega)) cV_X5_24_J2 (sH_jbL ⟨by omega, by omega⟩ (by omega)) rfl rfl rfl (by omega) (by omega) (by omega) (Nat.le_of_ble_eq_true rfl) dX5_work_21 zrX (zrK ?_)
        refine z_castS K (sH_op ⟨by omega, by omega⟩ (by omega)) rfl q558 dX5_work_24 ?_
        refine z_get K fd_X5_34_5 (sH_op ⟨by omega, by omega⟩ (by omega)) rfl dX5_work_27 ?_
        refine j_iadd K dX5_work_30 ?_
        refine z_istore_n K dX5_work_31 rfl (by decide) rfl ?_
        refine j_iinc K dX5_work_32 rfl (by decide) rfl ?_
        refine z_goto (tgt := 4) K dX5_work_35 rfl ?_
        exact nx _ ⟨rfl, rfl, by rw [show x + ((i + 1 : Nat) : Int) = x + i + 1 by omega]; rfl, trivial⟩
  refine j_iconst K dX5_work_0 ?_
  refine z_istore_n K dX5_work_1 rfl (by decide) rfl ?_
  refine z_iload_n K dX5_work_2 rfl rfl ?_
  refine z_istore_n K dX5_work_3 rfl (by decide) rfl ?_
  by_cases hz : x ≤ u 0 (17 + j).toNat
  · exact loop (u 0 (17 + j).toNat - x).toNat 0 (by omega) _ ⟨rfl, rfl, by rw [show x + ((0 : Nat) : Int) = x by omega]; rfl, trivial⟩
  · exact fin 0 (by omega) (Or.inl rfl) _ ⟨rfl, rfl, by rw [show x + ((0 : Nat) : Int) = x by omega]; rfl, trivial⟩
theorem x2_unhindered {k f : Int} (hA : WfA (u 0)) (hB : BkOk b u g) (hk : 0 ≤ k ∧ k < u 0 1) (hf : 0 ≤ f ∧ f ≤ 50000) : zMet yX2_unhindered (ws_ yX2_unhindered cX2_unhindered 6 (some .int)) 4 [.ref b, .ref (b + 52 + k.toNat), .int (iI f)] (sH b u g) (zRet (.int (iI (sFree (u 0) (u 0 (62 + k).toNat) f (u 0 (82 + k).toNat)))) (sH b u g)) 0 0 := by
  have h20 := hA.2.1.1
  obtain ⟨-, hm, hdu, -, -, -⟩ := hA.2.1.2 k hk.1 hk.2
  have hb0 := (hA.2.2.2.2.2 _ hm.1 hm.2).1
  have hbi := (hA.2.2.2.2.2 _ hm.1 hm.2).2
  have hbk := fun i => hB _ i hm.1 hm.2
  have hba := fun (i : Int) => hB.at (m := u 0 (62 + k).toNat) (i := i) hm
  refine zMet.of (by decide) (Nat.le_of_ble_eq_true rfl) fun X K => ?_
  (try dsimp only [sRel, sDue, sWt, sLen, sSeq, sJb, sMc, sDu, sFa, sIx, sSu, sBn, sBf, sBl, sOn, sOr] at *)
  generalize hmm : u 0 (62 + k).toNat = m at *
  have loop : ∀ (M r : Nat) (i t : Int), 0 ≤ i → i + r = u 0 (151 + m).toNat → f ≤ t → t ≤ 100460 → (100460 - t).toNat < M → (∀ z : Int, f ≤ z → z < t → ∃ i : Int, 0 ≤ i ∧ i < sBn (u 0) m ∧ hind (u 0) m (u 0 (82 + k).toNat) z i) → (∀ q : Int, 0 ≤ q → q < i → ¬ hind (u 0) m (u 0 (82 + k).toNat) t q) → ∀ env, zsub env [(1, .ref (b + 52 + k.toNat)), (3, .ref (b + 10 + m.toNat)), (4, .int (iI t)), (5, .int (iI i))] → zW X (zRet (.int (iI (sFree (u 0) m f (u 0 (82 + k).toNat)))) (sH b u g)) (sH b u g) 0 0 21 env [] := by
    intro M
    induction M with
    | zero => intro r i t _ _ _ _ h; omega
    | succ M ihM =>
      intro r
      induction r with
      | zero =>
        intro i t i0 hi hft htl hM hJ hno env he
        refine zW.cut he ?_
        refine z_iload K dX2_unhindered_21 rfl ?_
        refine z_aload_n K dX2_unhindered_23 rfl rfl rfl ?_
        refine z_callV K (jl_size (sH_brk ⟨by omega, by omega⟩)) cV_X2_55_J2 (sH_brk ⟨by omega, by omega⟩) rfl rfl rfl (by omega) (by omega) (by omega) (Nat.le_of_ble_eq_true rfl) dX2_unhindered_24 zrX (zrK ?_)
        refine j_icmp_ge (tgt := 90) K dX2_unhindered_27 rfl (by omega) (by omega) (fun c_27 => ?_) (fun c_27 => ?_)
        · refine z_iload K dX2_unhindered_90 rfl ?_
          exact z_iret K (by omega) (by omega) (⟨by rw [isFree.eq ⟨hft, fun q q0 q1 => hno q q0 (by (try dsimp only [sRel, sDue, sWt, sLen, sSeq, sJb, sMc, sDu, sFa, sIx, sSu, sBn, sBf, sBl, sOn, sOr] at *); omega), hJ⟩], rfl⟩) dX2_unhindered_92
        · exact absurd c_27 (by omega)
      | succ r ihr =>
        intro i t i0 hi hft htl hM hJ hno env he
        refine zW.cut he ?_
        have hin : i < sBn (u 0) m := by (try dsimp only [sRel, sDue, sWt, sLen, sSeq, sJb, sMc, sDu, sFa, sIx, sSu, sBn, sBf, sBl, sOn, sOr] at *); omega
        obtain ⟨hb1, hb2⟩ := hbi i i0 hin
        obtain ⟨hk1, hk2, hk3, hk4⟩ := hbk i i0 hin
        have hat := hba i ⟨i0, hin⟩
        have nx := ihr (i + 1) t (by omega) (by omega) hft htl hM hJ
        have rs := ihM (u 0 (151 + m).toNat).toNat 0 (u 0 (155 + 3 * m + i).toNat + u 0 (167 + 3 * m + i).toNat) (by omega) (by omega)
        (try dsimp only [sRel, sDue, sWt, sLen, sSeq, sJb, sMc, sDu, sFa, sIx, sSu, sBn, sBf, sBl, sOn, sOr] at *)
        have gb := gt_brk (b := b) (u := u) (g := g) (m := m) (i := i) hm hk1 ⟨i0, by omega⟩ (by omega)
        refine z_iload K dX2_unhindered_21 rfl ?_
        refine z_aload_n K dX2_unhindered_23 rfl rfl rfl ?_
        refine z_callV K (jl_size (sH_brk ⟨by omega, by omega⟩)) cV_X2_55_J2 (sH_brk ⟨by omega, by omega⟩) rfl rfl rfl (by omega) (by omega) (by omega) (Nat.le_of_ble_eq_true rfl) dX2_unhindered_24 zrX (zrK ?_)
        refine j_icmp_ge (tgt := 90) K dX2_unhindered_27 rfl (by omega) (by omega) (fun c_27 => ?_) (fun c_27 => ?_)
        · exact absurd c_27 (by omega)
        · refine z_aload_n K dX2_unhindered_30 rfl rfl rfl ?_
          refine z_iload K dX2_unhindered_31 rfl ?_
          refine z_callV K (gb) cV_X2_59_J2 (sH_brk ⟨by omega, by omega⟩) rfl rfl rfl (by omega) (by omega) (by omega) (Nat.le_of_ble_eq_true rfl) dX2_unhindered_33 zrX (zrK ?_)
          refine z_castS K (hat) rfl q435 dX2_unhindered_36 ?_
          refine z_iload K dX2_unhindered_39 rfl ?_
          refine z_aload_n K dX2_unhindered_41 rfl rfl rfl ?_
          refine z_get K fd_X2_85_5 (sH_op ⟨by omega, by omega⟩ (by omega)) rfl dX2_unhindered_42 ?_
          refine z_callV K (x7_hinders hat ⟨by omega, by omega⟩ ⟨by omega, by omega⟩ ⟨by omega, by omega⟩ ⟨by omega, by omega⟩) cV_X2_127_X7 (hat) rfl rfl rfl (by omega) (by omega) (by omega) (Nat.le_of_ble_eq_true rfl) dX2_unhindered_45 zrX (zrK ?_)
          refine j_if_ne (tgt := 54) K dX2_unhindered_48 rfl (b01r _) (fun c_48 => ?_) (fun c_48 => ?_)
          · rw [bI_ne] at c_48
            refine z_aload_n K dX2_unhindered_54 rfl rfl rfl ?_
            refine z_iload K dX2_unhindered_55 rfl ?_
            refine z_callV K (gb) cV_X2_59_J2 (sH_brk ⟨by omega, by omega⟩) rfl rfl rfl (by omega) (by omega) (by omega) (Nat.le_of_ble_eq_true rfl) dX2_unhindered_57 zrX (zrK ?_)
            refine z_castS K (hat) rfl q435 dX2_unhindered_60 ?_
            refine z_get K fd_X2_131_6 (hat) rfl dX2_unhindered_63 ?_
            refine z_aload_n K dX2_unhindered_66 rfl rfl rfl ?_
            refine z_iload K dX2_unhindered_67 rfl ?_
            refine z_callV K (gb) cV_X2_59_J2 (sH_brk ⟨by omega, by omega⟩) rfl rfl rfl (by omega) (by omega) (by omega) (Nat.le_of_ble_eq_true rfl) dX2_unhindered_69 zrX (zrK ?_)
            refine z_castS K (hat) rfl q435 dX2_unhindered_72 ?_
            refine z_get K fd_X2_134_6 (hat) rfl dX2_unhindered_75 ?_
            refine j_iadd K dX2_unhindered_78 ?_
            refine z_istore K dX2_unhindered_79 (by decide) rfl ?_
            refine j_iconst K dX2_unhindered_81 ?_
            refine z_istore K dX2_unhindered_82 (by decide) rfl ?_
            refine j_iinc K dX2_unhindered_84 rfl (by decide) rfl ?_
            refine z_goto (tgt := 21) K dX2_unhindered_87 rfl ?_
            first | exact nx (fun q q0 q1 hq => by rcases (by omega : q < i ∨ q = i) with z | z; exact hno q q0 z hq; subst z; unfold hind at hq; (try dsimp only [sRel, sDue, sWt, sLen, sSeq, sJb, sMc, sDu, sFa, sIx, sSu, sBn, sBf, sBl, sOn, sOr] at *); exact c_48 (by omega)) _ ⟨rfl, rfl, rfl, rfl, trivial⟩ | exact rs (by omega) (by omega) (by omega) (fun z z0 z1 => by rcases Int.lt_or_le z t with q | q; exact hJ z z0 q; exact ⟨i, i0, by (try dsimp only [sRel, sDue, sWt, sLen, sSeq, sJb, sMc, sDu, sFa, sIx, sSu, sBn, sBf, sBl, sOn, sOr] at *); omega, by unfold hind; (try dsimp only [sRel, sDue, sWt, sLen, sSeq, sJb, sMc, sDu, sFa, sIx, sSu, sBn, sBf, sBl, sOn, sOr] at *); omega⟩) (fun q q0 q1 => by omega) _ ⟨rfl, rfl, rfl, rfl, trivial⟩
          · rw [bI_eq] at c_48
            refine z_goto (tgt := 84) K dX2_unhindered_51 rfl ?_
            refine j_iinc K dX2_unhindered_84 rfl (by decide) rfl ?_
            refine z_goto (tgt := 21) K dX2_unhindered_87 rfl ?_
            first | exact nx (fun q q0 q1 hq => by rcases (by omega : q < i ∨ q = i) with z | z; exact hno q q0 z hq; subst z; unfold hind at hq; (try dsimp only [sRel, sDue, sWt, sLen, sSeq, sJb, sMc, sDu, sFa, sIx, sSu, sBn, sBf, sBl, sOn, sOr] at *); exact c_48 (by omega)) _ ⟨rfl, rfl, rfl, rfl, trivial⟩ | exact rs (by omega) (by omega) (by omega) (fun z z0 z1 => by rcases Int.lt_or_le z t with q | q; exact hJ z z0 q; exact ⟨i, i0, by (try dsimp only [sRel, sDue, sWt, sLen, sSeq, sJb, sMc, sDu, sFa, sIx, sSu, sBn, sBf, sBl, sOn, sOr] at *); omega, by unfold hind; (try dsimp only [sRel, sDue, sWt, sLen, sSeq, sJb, sMc, sDu, sFa, sIx, sSu, sBn, sBf, sBl, sOn, sOr] at *); omega⟩) (fun q q0 q1 => by omega) _ ⟨rfl, rfl, rfl, rfl, trivial⟩
  refine z_aload_n K dX2_unhindered_0 rfl rfl rfl ?_
  refine z_get K fd_X2_25_2 (sH_shop) rfl dX2_unhindered_1 ?_
  refine z_aload_n K dX2_unhindered_4 rfl rfl rfl ?_
  refine z_get K fd_X2_82_5 (sH_op ⟨by omega, by omega⟩ (by omega)) rfl dX2_unhindered_5 ?_
  rw [hmm]
  refine z_callV K (gt_brks ⟨by omega, by omega⟩) cV_X2_59_J2 (sH_brks) rfl rfl rfl (by omega) (by omega) (by omega) (Nat.le_of_ble_eq_true rfl) dX2_unhindered_8 zrX (zrK ?_)
  refine z_castS K (sH_brk ⟨by omega, by omega⟩) rfl q146 dX2_unhindered_11 ?_
  refine z_astore_n K dX2_unhindered_14 rfl rfl (by decide) rfl ?_
  refine z_iload_n K dX2_unhindered_15 rfl rfl ?_
  refine z_istore K dX2_unhindered_16 (by decide) rfl ?_
  refine j_iconst K dX2_unhindered_18 ?_
  refine z_istore K dX2_unhindered_19 (by decide) rfl ?_
  exact loop ((100460 - f).toNat + 1) (u 0 (151 + m).toNat).toNat 0 f (by omega) (by omega) (by omega) (by omega) (by omega) (fun z z0 z1 => by omega) (fun q q0 q1 => by omega) _ ⟨rfl, rfl, rfl, rfl, trivial⟩
end XLw

