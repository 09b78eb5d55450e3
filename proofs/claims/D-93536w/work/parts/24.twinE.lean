/-! ===== the reference: the schedule ===== -/
theorem sRdy_le {s o : Nat → Int} (hA : WfA s) (hO : WfO s) {f : Int → Int} {k b : Int} (h0 : 0 ≤ k) (h1 : k < s 1) (hb : sBef s k = -1 ∨ f (sBef s k) ≤ b) (ha : sAh s o k = -1 ∨ f (sAh s o k) ≤ b) (h60 : 60 ≤ b) : 0 ≤ sRdy s o f k ∧ sRdy s o f k ≤ b + 39 := by
  obtain ⟨a1, -⟩ := hA.2.1.2 k h0 h1
  have hrel := (hA.1.2 _ a1.1 a1.2).1
  have e1 : (if sBef s k = -1 then sRel s (sJb s k) else f (sBef s k) + sDu s (sBef s k)) ≤ b + 39 := by
    split
    · omega
    · next q =>
      obtain ⟨hb1, -⟩ := (sBef_ok hA h0 h1).resolve_left q
      have := (hA.2.1.2 _ hb1.1 hb1.2).2.2.1
      have := hb.resolve_left q
      omega
  have e2 : (if sAh s o k = -1 then sRel s (sJb s k) else f (sAh s o k) + sDu s (sAh s o k) + sSu s (sAh s o k) k) ≤ b + 39 := by
    split
    · omega
    · next q =>
      obtain ⟨-, hb1, -⟩ := (sAh_ok hA hO h0 h1).resolve_left q
      have := (hA.2.1.2 _ hb1.1 hb1.2).2.2.1
      have := (hA.su hb1 ⟨h0, h1⟩).2.2
      have := ha.resolve_left q
      omega
  unfold sRdy
  omega
/-- the times of a world's orders -/
def fT (w : tW) (b : Int) (rd st : Nat → Int) : Prop := Tp (w 0) (w 13) (w 14 0) (w 15 0) rd st ∧ Tq (w 0) (w 13) st ∧ ∀ i : Nat, (i : Int) < w 0 1 → -1 ≤ st i ∧ st i ≤ b + 800
theorem tw_findTimes {w : tW} {bb : Int} (hbb : 500 ≤ bb ∧ bb ≤ 3200) (hhb : w 14 0 = -1 ∨ w 15 0 ≤ bb) (hA : WfA (w 0)) (hO : WfO (w 0)) (ho : ∀ m : Nat, m < 4 → 0 ≤ w 13 m ∧ w 13 m ≤ 1) (hd : -1 ≤ w 14 0 ∧ w 14 0 ≤ 100) (hu : 0 ≤ w 15 0 ∧ w 15 0 ≤ 3000) :
    tMi yX4_findTimes cX4_findTimes 5 .int 5 [] w (fun v w' => ∃ rd st, w' = wt w rd st ∧ fT w bb rd st ∧ v = cntU st (w 0 1).toNat) := by
  have h20 := hA.2.1.1
  refine zMet.of (by decide) (Nat.le_of_ble_eq_true rfl) fun X K => ?_
  have e0 : (1 : Int).toNat = 1 := rfl
  have outer : ∀ (M : Nat) (rd st : Nat → Int), (cntU st (w 0 1).toNat).toNat < M → Tp (w 0) (w 13) (w 14 0) (w 15 0) rd st → (∀ i : Nat, (i : Int) < w 0 1 → -1 ≤ st i ∧ st i ≤ bb + 40 * (w 0 1 - cntU st (w 0 1).toNat)) → ∀ env, zsub env [(0, .ref 1000), (1, .int (iI (w 0 1))), (2, .int (iI (cntU st (w 0 1).toNat))), (3, .int (iI 1))] → zW X (zPi fun x h' => ∃ v w', x = iI v ∧ h' = tH w' ∧ ∃ rd st, w' = wt w rd st ∧ fT w bb rd st ∧ v = cntU st (w 0 1).toNat) (tH (wt w rd st)) 0 0 31 env [] := by
    intro M
    induction M with
    | zero => intro rd st h; omega
    | succ M ih =>
      intro rd0 st0 hM hT0 hB0 env he
      refine zW.cut he ?_
      have inner : ∀ (r : Nat) (k : Int) (rd st : Nat → Int) (b : Int), 0 ≤ k → k + r = w 0 1 → Tp (w 0) (w 13) (w 14 0) (w 15 0) rd st → (∀ i : Nat, (i : Int) < w 0 1 → -1 ≤ st i ∧ st i ≤ bb + 40 * (w 0 1 - cntU st (w 0 1).toNat)) → (b = 0 ∧ cntU st (w 0 1).toNat = cntU st0 (w 0 1).toNat ∧ ∀ i : Int, 0 ≤ i → i < k → st i.toNat < 0 → (sBef (w 0) i ≠ -1 ∧ st (sBef (w 0) i).toNat < 0) ∨ (sAh (w 0) (w 13) i ≠ -1 ∧ st (sAh (w 0) (w 13) i).toNat < 0)) ∨ (b = 1 ∧ cntU st (w 0 1).toNat < cntU st0 (w 0 1).toNat) → ∀ env, zsub env [(0, .ref 1000), (1, .int (iI (w 0 1))), (2, .int (iI (cntU st (w 0 1).toNat))), (3, .int (iI b)), (4, .int (iI k))] → zW X (zPi fun x h' => ∃ v w', x = iI v ∧ h' = tH w' ∧ ∃ rd st, w' = wt w rd st ∧ fT w bb rd st ∧ v = cntU st (w 0 1).toNat) (tH (wt w rd st)) 0 0 40 env [] := by
        intro r
        induction r with
        | zero =>
          intro k rd st b k0 hk hT hB hbt env he
          refine zW.cut he ?_
          have hcr := cntU_r st (w 0 1).toNat
          have hcr0 := cntU_r st0 (w 0 1).toNat
          rcases hbt with ⟨rfl, hc, hno⟩ | ⟨rfl, hlt⟩
          · refine z_iload K dX4_findTimes_40 rfl ?_
            refine z_iload_n K dX4_findTimes_42 rfl rfl ?_
            refine j_icmp_ge (tgt := 99) K dX4_findTimes_43 rfl (by omega) (by omega) (fun c_43 => ?_) (fun c_43 => ?_)
            · refine z_goto (tgt := 31) K dX4_findTimes_99 rfl ?_
              refine z_iload_n K dX4_findTimes_31 rfl rfl ?_
              refine j_if_eq (tgt := 102) K dX4_findTimes_32 rfl (by omega) (fun c_32 => ?_) (fun c_32 => ?_)
              · refine z_iload_n K dX4_findTimes_102 rfl rfl ?_
                exact t_iret K (Nat.le_refl _) (Nat.le_refl _) (⟨rd, st, rfl, ⟨hT, fun i i0 i1 => hno i i0 (by omega), fun i hi => by have := hB i hi; omega⟩, rfl⟩) dX4_findTimes_103
              · exact absurd rfl c_32
            · exact absurd c_43 (by omega)
          · refine z_iload K dX4_findTimes_40 rfl ?_
            refine z_iload_n K dX4_findTimes_42 rfl rfl ?_
            refine j_icmp_ge (tgt := 99) K dX4_findTimes_43 rfl (by omega) (by omega) (fun c_43 => ?_) (fun c_43 => ?_)
            · refine z_goto (tgt := 31) K dX4_findTimes_99 rfl ?_
              exact ih rd st (by omega) hT hB _ ⟨rfl, rfl, rfl, rfl, trivial⟩
            · exact absurd c_43 (by omega)
        | succ r ihr =>
          intro k rd st b k0 hk hT hB hbt env he
          refine zW.cut he ?_
          have hcr := cntU_r st (w 0 1).toNat
          have hk1 : k < w 0 1 := by omega
          have hst := hB k.toNat (by omega)
          have e12 : ∀ i, wt w rd st 12 i = st i := fun i => rfl
          have hbo := (sBef_ok hA k0 hk1).imp id fun q => q.1
          have hao := (sAh_ok (o := w 13) hA hO k0 hk1).imp id fun q => q.2.1
          have hkn : ∀ j : Int, 0 ≤ j → (j = -1 ∨ (0 ≤ j ∧ j < w 0 1)) → -1 ≤ st j.toNat ∧ st j.toNat ≤ 4000 := fun j j0 hj => by have := hB j.toNat (by omega); omega
          have skip : (st k.toNat < 0 → (sBef (w 0) k ≠ -1 ∧ st (sBef (w 0) k).toNat < 0) ∨ (sAh (w 0) (w 13) k ≠ -1 ∧ st (sAh (w 0) (w 13) k).toNat < 0)) → ∀ env, zsub env [(0, .ref 1000), (1, .int (iI (w 0 1))), (2, .int (iI (cntU st (w 0 1).toNat))), (3, .int (iI b)), (4, .int (iI k))] → zW X (zPi fun x h' => ∃ v w', x = iI v ∧ h' = tH w' ∧ ∃ rd st, w' = wt w rd st ∧ fT w bb rd st ∧ v = cntU st (w 0 1).toNat) (tH (wt w rd st)) 0 0 93 env [] := by
            intro hs env he
            refine zW.cut he ?_
            refine j_iinc K dX4_findTimes_93 rfl (by decide) rfl ?_
            refine z_goto (tgt := 40) K dX4_findTimes_96 rfl ?_
            exact ihr (k + 1) rd st b (by omega) (by omega) hT hB (hbt.imp (fun ⟨b0, hc, hno⟩ => ⟨b0, hc, fun i i0 i1 hi => by (rcases (by omega : i < k ∨ i = k) with q | q <;> first | exact hno i i0 q hi | (subst q; exact hs hi))⟩) id) _ ⟨rfl, rfl, rfl, rfl, rfl, trivial⟩
          refine z_iload K dX4_findTimes_40 rfl ?_
          refine z_iload_n K dX4_findTimes_42 rfl rfl ?_
          refine j_icmp_ge (tgt := 99) K dX4_findTimes_43 rfl (by omega) (by omega) (fun c_43 => ?_) (fun c_43 => ?_)
          · exact absurd c_43 (by omega)
          · refine z_aload_n K dX4_findTimes_46 rfl rfl rfl ?_
            refine t_geta K fd_X4_29_0 rfl dX4_findTimes_47 ?_
            refine z_iload K dX4_findTimes_50 rfl ?_
            refine t_ild K 12 20 rfl rfl rfl (by omega) (by omega) rfl dX4_findTimes_52 ?_
            refine j_if_ge (tgt := 93) K dX4_findTimes_53 rfl (by rw [e12]; omega) (fun c_53 => ?_) (fun c_53 => ?_)
            · rw [e12] at c_53
              exact skip (fun q => by omega) _ ⟨rfl, rfl, rfl, rfl, rfl, trivial⟩
            · rw [e12] at c_53
              refine z_aload_n K dX4_findTimes_56 rfl rfl rfl ?_
              refine z_aload_n K dX4_findTimes_57 rfl rfl rfl ?_
              refine z_iload K dX4_findTimes_58 rfl ?_
              refine t_callp K (tw_before (w := wt w rd st) hA ⟨k0, hk1⟩) cV_X4_151_X4 rfl rfl (by decide) (Nat.le_of_ble_eq_true rfl) (Nat.le_refl _) (Nat.le_refl _) dX4_findTimes_60 ?_
              refine t_callp K (tw_isKnown (w := wt w rd st) (k := sBef (w 0) k) (by omega) (fun q => by rw [e12]; have := hkn _ q hbo; omega)) cV_X4_154_X4 rfl rfl (by decide) (Nat.le_of_ble_eq_true rfl) (Nat.le_refl _) (Nat.le_refl _) dX4_findTimes_63 ?_
              refine j_if_eq (tgt := 93) K dX4_findTimes_66 rfl (b01r _) (fun c_66 => ?_) (fun c_66 => ?_)
              · rw [bI_eq, e12] at c_66
                exact skip (fun _ => Or.inl ⟨by omega, by omega⟩) _ ⟨rfl, rfl, rfl, rfl, rfl, trivial⟩
              · rw [bI_ne, e12] at c_66
                refine z_aload_n K dX4_findTimes_69 rfl rfl rfl ?_
                refine z_aload_n K dX4_findTimes_70 rfl rfl rfl ?_
                refine z_iload K dX4_findTimes_71 rfl ?_
                refine t_callp K (tw_ahead (w := wt w rd st) hA hO ho ⟨k0, hk1⟩) cV_X4_157_X4 rfl rfl (by decide) (Nat.le_of_ble_eq_true rfl) (Nat.le_refl _) (Nat.le_refl _) dX4_findTimes_73 ?_
                refine t_callp K (tw_isKnown (w := wt w rd st) (k := sAh (w 0) (w 13) k) (by omega) (fun q => by rw [e12]; have := hkn _ q hao; omega)) cV_X4_154_X4 rfl rfl (by decide) (Nat.le_of_ble_eq_true rfl) (Nat.le_refl _) (Nat.le_refl _) dX4_findTimes_76 ?_
                refine j_if_eq (tgt := 93) K dX4_findTimes_79 rfl (b01r _) (fun c_79 => ?_) (fun c_79 => ?_)
                · rw [bI_eq, e12] at c_79
                  exact skip (fun _ => Or.inr ⟨by omega, by omega⟩) _ ⟨rfl, rfl, rfl, rfl, rfl, trivial⟩
                · rw [bI_ne, e12] at c_79
                  have hb9 : sBef (w 0) k = -1 ∨ (0 ≤ st (sBef (w 0) k).toNat ∧ st (sBef (w 0) k).toNat ≤ 10000) := by (rcases hbo with q | q <;> first | exact Or.inl q | exact Or.inr (by have := hkn _ q.1 (Or.inr q); have := c_66.resolve_left (by omega); omega))
                  have ha9 : sAh (w 0) (w 13) k = -1 ∨ (0 ≤ st (sAh (w 0) (w 13) k).toNat ∧ st (sAh (w 0) (w 13) k).toNat ≤ 10000) := by (rcases hao with q | q <;> first | exact Or.inl q | exact Or.inr (by have := hkn _ q.1 (Or.inr q); have := c_79.resolve_left (by omega); omega))
                  have hB9 := hA.2.2.2.2.2
                  have hm9 := (hA.2.1.2 k k0 hk1).2.1
                  have hv9 := sFree_ok hB9 (f := sFrom (w 14 0) (w 15 0) k (sRdy (w 0) (w 13) (fun i => st i.toNat) k)) (d := sDu (w 0) k) hm9
                  have hR9 := sRdy_le (o := w 13) (f := fun i => st i.toNat) (b := bb + 40 * (w 0 1 - cntU st (w 0 1).toNat)) hA hO k0 hk1 (by (rcases hbo with q | q <;> first | exact Or.inl q | exact Or.inr (hB _ (by omega)).2)) (by (rcases hao with q | q <;> first | exact Or.inl q | exact Or.inr (hB _ (by omega)).2)) (by omega)
                  have hF9 : sRdy (w 0) (w 13) (fun i => st i.toNat) k ≤ sFrom (w 14 0) (w 15 0) k (sRdy (w 0) (w 13) (fun i => st i.toNat) k) ∧ sFrom (w 14 0) (w 15 0) k (sRdy (w 0) (w 13) (fun i => st i.toNat) k) ≤ bb + 39 + 40 * (w 0 1 - cntU st (w 0 1).toNat) := by (unfold sFrom; (rcases hhb with q | q <;> split <;> omega))
                  have hL9 := hv9.le hB9 hm9
                  have hG9 := hv9.1
                  have hC9 := cntU_sup (v := sFree (w 0) (sMc (w 0) k) (sFrom (w 14 0) (w 15 0) k (sRdy (w 0) (w 13) (fun i => st i.toNat) k)) (sDu (w 0) k)) (show k.toNat < (w 0 1).toNat by omega) c_53 (by omega)
                  have fin : ∀ env, zsub env [(0, .ref 1000), (1, .int (iI (w 0 1))), (2, .int (iI (cntU st (w 0 1).toNat + -1))), (3, .int (iI 1)), (4, .int (iI (k + 1)))] → zW X (zPi fun x h' => ∃ v w', x = iI v ∧ h' = tH w' ∧ ∃ rd st, w' = wt w rd st ∧ fT w bb rd st ∧ v = cntU st (w 0 1).toNat) (tH (wt w (sup rd k.toNat (sRdy (w 0) (w 13) (fun i => st i.toNat) k)) (sup st k.toNat (sFree (w 0) (sMc (w 0) k) (sFrom (w 14 0) (w 15 0) k (sRdy (w 0) (w 13) (fun i => st i.toNat) k)) (sDu (w 0) k))))) 0 0 40 env [] := fun env he => ihr (k + 1) _ _ 1 (by omega) (by omega) (hT.step hA hO k0 hk1 c_53 (hb9.imp id And.left) (ha9.imp id And.left) hv9) (fun i hi => by by_cases q : i = k.toNat; (rw [q, sup_s, hC9]; omega); (rw [sup_n q, hC9]; have := hB i hi; omega)) (Or.inr ⟨rfl, by rw [hC9]; rcases hbt with q | q <;> omega⟩) env (by rw [hC9]; exact he)
                  refine z_aload_n K dX4_findTimes_82 rfl rfl rfl ?_
                  refine z_iload K dX4_findTimes_83 rfl ?_
                  refine t_callv K (tw_findTime (w := wt w rd st) hA hO ho ⟨k0, hk1⟩ hd hu hb9 ha9) cV_X4_160_X4 rfl rfl (by decide) (Nat.le_of_ble_eq_true rfl) (Nat.le_refl _) (Nat.le_refl _) dX4_findTimes_85 ?_
                  rintro _ rfl
                  rw [wt_11, wt_12]
                  refine j_iinc K dX4_findTimes_88 rfl (by decide) rfl ?_
                  refine j_iconst K dX4_findTimes_91 ?_
                  refine z_istore_n K dX4_findTimes_92 rfl (by decide) rfl ?_
                  refine j_iinc K dX4_findTimes_93 rfl (by decide) rfl ?_
                  refine z_goto (tgt := 40) K dX4_findTimes_96 rfl ?_
                  exact fin _ ⟨rfl, rfl, rfl, rfl, rfl, trivial⟩
      refine z_iload_n K dX4_findTimes_31 rfl rfl ?_
      refine j_if_eq (tgt := 102) K dX4_findTimes_32 rfl (by omega) (fun c_32 => ?_) (fun c_32 => ?_)
      · exact absurd c_32 (by omega)
      · refine j_iconst K dX4_findTimes_35 ?_
        refine z_istore_n K dX4_findTimes_36 rfl (by decide) rfl ?_
        refine j_iconst K dX4_findTimes_37 ?_
        refine z_istore K dX4_findTimes_38 (by decide) rfl ?_
        exact inner (w 0 1).toNat 0 rd0 st0 0 (by omega) (by omega) hT0 hB0 (Or.inl ⟨rfl, rfl, fun i i0 i1 => by omega⟩) _ ⟨rfl, rfl, rfl, rfl, rfl, trivial⟩
  have loop1 : ∀ (n : Nat) (k : Int) (st : Nat → Int), 0 ≤ k → k + n = w 0 1 → (∀ i : Nat, (i : Int) < k → st i = -1) → ∀ env, zsub env [(0, .ref 1000), (1, .int (iI (w 0 1))), (2, .int (iI k))] → zW X (zPi fun x h' => ∃ v w', x = iI v ∧ h' = tH w' ∧ ∃ rd st, w' = wt w rd st ∧ fT w bb rd st ∧ v = cntU st (w 0 1).toNat) (tH (wt w (w 11) st)) 0 0 9 env [] := by
    intro n
    induction n with
    | zero =>
      intro k st k0 hk hs env he
      refine zW.cut he ?_
      have hc : cntU st (w 0 1).toNat = w 0 1 := by rw [cntU_all (fun i hi => by rw [hs i (by omega)]; decide)]; omega
      refine z_iload_n K dX4_findTimes_9 rfl rfl ?_
      refine z_iload_n K dX4_findTimes_10 rfl rfl ?_
      refine j_icmp_ge (tgt := 27) K dX4_findTimes_11 rfl (by omega) (by omega) (fun c_11 => ?_) (fun c_11 => ?_)
      · refine z_iload_n K dX4_findTimes_27 rfl rfl ?_
        refine z_istore_n K dX4_findTimes_28 rfl (by decide) rfl ?_
        refine j_iconst K dX4_findTimes_29 ?_
        refine z_istore_n K dX4_findTimes_30 rfl (by decide) rfl ?_
        exact outer ((cntU st (w 0 1).toNat).toNat + 1) (w 11) st (by omega) (fun i i0 i1 hi => by rw [hs i.toNat (by omega)] at hi; omega) (fun i hi => by rw [hs i (by omega), hc]; omega) _ ⟨rfl, rfl, by rw [hc]; rfl, rfl, trivial⟩
      · exact absurd c_11 (by omega)
    | succ n ih =>
      intro k st k0 hk hs env he
      refine zW.cut he ?_
      refine z_iload_n K dX4_findTimes_9 rfl rfl ?_
      refine z_iload_n K dX4_findTimes_10 rfl rfl ?_
      refine j_icmp_ge (tgt := 27) K dX4_findTimes_11 rfl (by omega) (by omega) (fun c_11 => ?_) (fun c_11 => ?_)
      · exact absurd c_11 (by omega)
      · refine z_aload_n K dX4_findTimes_14 rfl rfl rfl ?_
        refine t_geta K fd_X4_29_0 rfl dX4_findTimes_15 ?_
        refine z_iload_n K dX4_findTimes_18 rfl rfl ?_
        refine j_iconst K dX4_findTimes_19 ?_
        refine t_ist K 12 20 rfl rfl rfl (by omega) (by omega) rfl dX4_findTimes_20 ?_
        rw [wt_12]
        refine j_iinc K dX4_findTimes_21 rfl (by decide) rfl ?_
        refine z_goto (tgt := 9) K dX4_findTimes_24 rfl ?_
        exact ih (k + 1) _ (by omega) (by omega) (fun i hi => by by_cases q : i = k.toNat; (rw [q, sup_s]); (rw [sup_n q]; exact hs i (by omega))) _ ⟨rfl, rfl, rfl, trivial⟩
  refine z_aload_n K dX4_findTimes_0 rfl rfl rfl ?_
  refine t_geta K fd_X4_9_0 rfl dX4_findTimes_1 ?_
  refine j_iconst K dX4_findTimes_4 ?_
  refine t_ild K 0 203 rfl rfl rfl (by omega) (by omega) rfl dX4_findTimes_5 ?_
  rw [e0]
  refine z_istore_n K dX4_findTimes_6 rfl (by decide) rfl ?_
  refine j_iconst K dX4_findTimes_7 ?_
  refine z_istore_n K dX4_findTimes_8 rfl (by decide) rfl ?_
  have l9 := loop1 (w 0 1).toNat 0 (w 12) (by omega) (by omega) (fun i hi => by omega)
  rw [wt_self] at l9
  exact l9 _ ⟨rfl, rfl, rfl, trivial⟩
/-- the greatest end of the first n -/
def gEnd (s : Nat → Int) (st : Nat → Int) : Nat → Int
  | 0 => 0
  | n + 1 => max (gEnd s st n) (st n + s (82 + (n : Int)).toNat)
theorem gEnd_r {s st : Nat → Int} (hA : WfA s) {n : Nat} (hn : (n : Int) ≤ s 1) (h : ∀ i : Nat, (i : Int) < s 1 → -1 ≤ st i ∧ st i ≤ 4000) : 0 ≤ gEnd s st n ∧ gEnd s st n ≤ 4030 := by
  induction n with
  | zero => simp [gEnd]
  | succ n ih =>
    have h1 := ih (by omega)
    have h2 := h n (by omega)
    have h3 := (hA.2.1.2 n (by omega) (by omega)).2.2.1
    unfold gEnd
    (try dsimp only [sRel, sDue, sWt, sLen, sSeq, sJb, sMc, sDu, sFa, sIx, sSu, sBn, sBf, sBl, sOn, sOr] at *)
    omega
theorem tw_greatestEnd {w : tW} (hA : WfA (w 0)) (hs : ∀ i : Nat, (i : Int) < w 0 1 → -1 ≤ w 12 i ∧ w 12 i ≤ 4000) : tMi yX4_greatestEnd cX4_greatestEnd 3 .int 2 [] w (fun v w' => v = gEnd (w 0) (w 12) (w 0 1).toNat ∧ w' = w) := by
  have h20 := hA.2.1.1
  refine zMet.of (by decide) (Nat.le_of_ble_eq_true rfl) fun X K => ?_
  have e0 : (1 : Int).toNat = 1 := rfl
  have loop : ∀ (n k : Nat), k + n = (w 0 1).toNat → ∀ env, zsub env [(0, .ref 1000), (1, .int (iI (gEnd (w 0) (w 12) k))), (2, .int (iI k))] → zW X (zPi fun x h' => ∃ v w', x = iI v ∧ h' = tH w' ∧ (v = gEnd (w 0) (w 12) (w 0 1).toNat ∧ w' = w)) (tH w) 0 0 4 env [] := by
    intro n
    induction n with
    | zero =>
      intro k hk env he
      refine zW.cut he ?_
      refine z_iload_n K dX4_greatestEnd_4 rfl rfl ?_
      refine z_aload_n K dX4_greatestEnd_5 rfl rfl rfl ?_
      refine t_geta K fd_X4_9_0 rfl dX4_greatestEnd_6 ?_
      refine j_iconst K dX4_greatestEnd_9 ?_
      refine t_ild K 0 203 rfl rfl rfl (by omega) (by omega) rfl dX4_greatestEnd_10 ?_
      rw [e0]
      refine j_icmp_ge (tgt := 30) K dX4_greatestEnd_11 rfl (by omega) (by omega) (fun c_11 => ?_) (fun c_11 => ?_)
      · refine z_iload_n K dX4_greatestEnd_30 rfl rfl ?_
        exact t_iret K (Nat.le_refl _) (Nat.le_refl _) (⟨by rw [← hk]; rfl, rfl⟩) dX4_greatestEnd_31
      · exact absurd c_11 (by omega)
    | succ n ih =>
      intro k hk env he
      refine zW.cut he ?_
      have h2 := hs k (by omega)
      have h3 := (hA.2.1.2 k (by omega) (by omega)).2.2.1
      have h4 := gEnd_r hA (n := k) (by omega) hs
      (try dsimp only [sRel, sDue, sWt, sLen, sSeq, sJb, sMc, sDu, sFa, sIx, sSu, sBn, sBf, sBl, sOn, sOr] at *)
      refine z_iload_n K dX4_greatestEnd_4 rfl rfl ?_
      refine z_aload_n K dX4_greatestEnd_5 rfl rfl rfl ?_
      refine t_geta K fd_X4_9_0 rfl dX4_greatestEnd_6 ?_
      refine j_iconst K dX4_greatestEnd_9 ?_
      refine t_ild K 0 203 rfl rfl rfl (by omega) (by omega) rfl dX4_greatestEnd_10 ?_
      rw [e0]
      refine j_icmp_ge (tgt := 30) K dX4_greatestEnd_11 rfl (by omega) (by omega) (fun c_11 => ?_) (fun c_11 => ?_)
      · exact absurd c_11 (by omega)
      · refine z_iload_n K dX4_greatestEnd_14 rfl rfl ?_
        refine z_aload_n K dX4_greatestEnd_15 rfl rfl rfl ?_
        refine z_iload_n K dX4_greatestEnd_16 rfl rfl ?_
        refine t_callp K (tw_endOf (by omega)) cV_X4_164_X4 rfl rfl (by decide) (Nat.le_of_ble_eq_true rfl) (Nat.le_refl _) (Nat.le_refl _) dX4_greatestEnd_17 ?_
        rw [Int.toNat_natCast]
        refine z_calls K (s_max (by omega) (by omega)) cS_X4_167 rfl rfl (by decide) (Nat.le_of_ble_eq_true rfl) (Nat.le_refl _) (Nat.le_refl _) dX4_greatestEnd_20 ?_
        refine z_istore_n K dX4_greatestEnd_23 rfl (by decide) rfl ?_
        refine j_iinc K dX4_greatestEnd_24 rfl (by decide) rfl ?_
        refine z_goto (tgt := 4) K dX4_greatestEnd_27 rfl ?_
        exact ih (k + 1) (by omega) _ ⟨rfl, rfl, rfl, trivial⟩
  refine j_iconst K dX4_greatestEnd_0 ?_
  refine z_istore_n K dX4_greatestEnd_1 rfl (by decide) rfl ?_
  refine j_iconst K dX4_greatestEnd_2 ?_
  refine z_istore_n K dX4_greatestEnd_3 rfl (by decide) rfl ?_
  exact loop (w 0 1).toNat 0 (by omega) _ ⟨rfl, rfl, rfl, trivial⟩
/-- the makespan, or -1 -/
def mkS (s st : Nat → Int) : Int := if 0 < cntU st (s 1).toNat then -1 else gEnd s st (s 1).toNat
theorem tw_makespanNow {w : tW} {bb : Int} (hbb : 500 ≤ bb ∧ bb ≤ 3200) (hhb : w 14 0 = -1 ∨ w 15 0 ≤ bb) (hA : WfA (w 0)) (hO : WfO (w 0)) (ho : ∀ m : Nat, m < 4 → 0 ≤ w 13 m ∧ w 13 m ≤ 1) (hd : -1 ≤ w 14 0 ∧ w 14 0 ≤ 100) (hu : 0 ≤ w 15 0 ∧ w 15 0 ≤ 3000) :
    tMi yX4_makespanNow cX4_makespanNow 1 .int 6 [] w (fun v w' => ∃ rd st, w' = wt w rd st ∧ fT w bb rd st ∧ v = mkS (w 0) st) := by
  have h20 := hA.2.1.1
  refine zMet.of (by decide) (Nat.le_of_ble_eq_true rfl) fun X K => ?_
  refine z_aload_n K dX4_makespanNow_0 rfl rfl rfl ?_
  refine t_calli K (tw_findTimes hbb hhb hA hO ho hd hu) cV_X4_181_X4 rfl rfl (by decide) (Nat.le_of_ble_eq_true rfl) (Nat.le_refl _) (Nat.le_refl _) dX4_makespanNow_1 ?_
  rintro _ _ ⟨rd, st, rfl, hT, rfl⟩
  refine j_if_le (tgt := 11) K dX4_makespanNow_4 rfl (by have := cntU_r st (w 0 1).toNat; omega) (fun c_4 => ?_) (fun c_4 => ?_)
  · refine z_aload_n K dX4_makespanNow_11 rfl rfl rfl ?_
    refine t_callp K (tw_greatestEnd (w := wt w rd st) hA (fun i hi => by have := hT.2.2 i hi; exact ⟨this.1, by show st i ≤ 4000; omega⟩)) cV_X4_185_X4 rfl rfl (by decide) (Nat.le_of_ble_eq_true rfl) (Nat.le_refl _) (Nat.le_refl _) dX4_makespanNow_12 ?_
    exact t_iret K (Nat.le_refl _) (Nat.le_refl _) (⟨rd, st, rfl, hT, by unfold mkS; first | rw [if_pos c_4] | (rw [if_neg (by omega)]; rfl)⟩) dX4_makespanNow_15
  · refine j_iconst K dX4_makespanNow_7 ?_
    refine z_goto (tgt := 15) K dX4_makespanNow_8 rfl ?_
    exact t_iret K (Nat.le_refl _) (Nat.le_refl _) (⟨rd, st, rfl, hT, by unfold mkS; first | rw [if_pos c_4] | (rw [if_neg (by omega)]; rfl)⟩) dX4_makespanNow_15

