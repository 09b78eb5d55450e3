/-! ===== the reference: findBest, takeBest, best, reoptimize ===== -/
/-- the world with another field f -/
def wF (w : tW) (f : Nat) (b : Nat → Int) : tW := fun g => if g = f then b else w g
theorem wF_s {w : tW} {f : Nat} {b : Nat → Int} : wF w f b f = b := if_pos rfl
theorem wF_n {w : tW} {f g : Nat} {b : Nat → Int} (h : g ≠ f) : wF w f b g = w g := if_neg h
theorem wF_i {w : tW} {f : Nat} : wF w f (w f) = w := by
  funext g
  unfold wF
  split
  · next h => rw [h]
  · rfl
theorem wF_t {w : tW} {f i : Nat} {b : Nat → Int} {v : Int} : tset (wF w f b) f i v = wF w f (sup b i v) := by
  funext g j
  unfold tset wF sup
  by_cases c : g = f
  · subst c; by_cases d : j = i <;> simp [d]
  · simp [c]
theorem tset_g {w : tW} {f g i : Nat} {v : Int} (h : g ≠ f) : tset w f i v g = w g := by funext j; exact tset_f h
def fbQ (s o : Nat → Int) (m n : Nat) (w w' : tW) : Prop := w' 0 = s ∧ Fr [0, 11, 12, 20, 21, 23] w w' ∧ (-1 ≤ w' 21 0 ∧ w' 21 0 ≤ 5000) ∧ bOf s o m n (fun _ => True) (w' 21 0) (w' 20)
/-- what a search needs -/
def fbP (s o : Nat → Int) (w : tW) : Prop := w 0 = s ∧ w 13 = o ∧ w 14 0 = -1 ∧ (0 ≤ w 15 0 ∧ w 15 0 ≤ 3000) ∧ (∀ i : Nat, i < 20 → w 22 i = 0)
theorem tw_findBest {s o : Nat → Int} (hA : WfA s) (hO : WfO s) {m n : Nat} (hm : m ≤ 3) (hn : sOn s m = n) (ho : ∀ m : Nat, m < 4 → 0 ≤ o m ∧ o m ≤ 1) {w : tW} (h : fbP s o w) : tMv yX4_findBest cX4_findBest 4 13 [.int (iI m)] w (fbQ s o m n w) := by
  refine zMet.of (by decide) (Nat.le_of_ble_eq_true rfl) fun X K => ?_
  obtain ⟨w0, w13, w14, w15, hu⟩ := h
  have h5 := (hO m (by omega) (by omega)).1
  have h20 := hA.2.1.1
  have eon : w 0 (179 + (m : Int)).toNat = n := by rw [w0]; exact hn
  have l2 : ∀ W : tW, ∀ c b, W 0 = sPut s m n c → EQ n (fun i => s (183 + 5 * m + i)) b → W 23 = b → Fr [0, 11, 12, 20, 21, 23] w W → (-1 ≤ W 21 0 ∧ W 21 0 ≤ 5000) → bOf s o m n (fun _ => True) (W 21 0) (W 20) → ∀ r i : Nat, i + r = n → ∀ env, zsub env [(0, .ref 1000), (1, .int (iI m)), (2, .int (iI n)), (3, .int (iI i))] → zW X (zPv fun h' => ∃ w', h' = tH w' ∧ fbQ s o m n w w') (tH (wF W 0 (sPut (sPut s m n c) m i b))) 0 0 49 env [] := by
    intro W c b W0 he W23 hF hb1 hb2 r
    induction r with
    | zero =>
      intro i hi env hv
      refine zW.cut hv ?_
      obtain rfl : i = n := by omega
      have fin : fbQ s o m i w (wF W 0 (sPut (sPut s m i c) m i b)) := ⟨by rw [wF_s, sPut_2, ← sPut_e he, sPut_i], fun f hf => by rw [wF_n (fun e => hf (by rw [e]; decide))]; exact hF f hf, hb1, hb2⟩
      refine z_iload_n K dX4_findBest_49 rfl rfl ?_
      refine z_iload_n K dX4_findBest_50 rfl rfl ?_
      refine j_icmp_ge (tgt := 72) K dX4_findBest_51 rfl (by omega) (by omega) (fun c_51 => ?_) (fun c_51 => ?_)
      · exact t_vret K (Nat.le_refl _) (Nat.le_refl _) (fin) dX4_findBest_72
      · exact absurd c_51 (by omega)
    | succ r ih =>
      intro i hi env hv
      refine zW.cut hv ?_
      have nx := ih (i + 1) (by omega)
      clear ih
      refine z_iload_n K dX4_findBest_49 rfl rfl ?_
      refine z_iload_n K dX4_findBest_50 rfl rfl ?_
      refine j_icmp_ge (tgt := 72) K dX4_findBest_51 rfl (by omega) (by omega) (fun c_51 => ?_) (fun c_51 => ?_)
      · exact absurd c_51 (by omega)
      · refine z_aload_n K dX4_findBest_54 rfl rfl rfl ?_
        refine z_iload_n K dX4_findBest_55 rfl rfl ?_
        refine z_iload_n K dX4_findBest_56 rfl rfl ?_
        refine z_aload_n K dX4_findBest_57 rfl rfl rfl ?_
        refine t_geta K fd_X4_55_0 rfl dX4_findBest_58 ?_
        refine z_iload_n K dX4_findBest_61 rfl rfl ?_
        refine t_ild K 23 5 rfl rfl rfl (by omega) (by omega) rfl dX4_findBest_62 ?_
        rw [show wF W 0 (sPut (sPut s m n c) m i b) 23 = b from W23, Int.toNat_natCast]
        refine t_callv K (tw_setOrdered (by omega) (by omega)) cV_X4_114_X4 rfl rfl (by omega) (Nat.le_of_ble_eq_true rfl) (Nat.le_refl _) (Nat.le_refl _) dX4_findBest_63 ?_
        rintro _ rfl
        rw [show (183 + 5 * (m : Int) + (i : Int)).toNat = 183 + 5 * m + i by omega, wF_t, sPut_n]
        refine j_iinc K dX4_findBest_66 rfl (by decide) rfl ?_
        refine z_goto (tgt := 49) K dX4_findBest_69 rfl ?_
        exact nx _ ⟨rfl, rfl, rfl, rfl, trivial⟩
  have l1 : ∀ (r i : Nat), i + r = n → ∀ b, EQ i (fun i => s (183 + 5 * m + i)) b → ∀ env, zsub env [(0, .ref 1000), (1, .int (iI m)), (2, .int (iI n)), (3, .int (iI i))] → zW X (zPv fun h' => ∃ w', h' = tH w' ∧ fbQ s o m n w w') (tH (wF w 23 b)) 0 0 13 env [] := by
    intro r
    induction r with
    | zero =>
      intro i hi b he env hv
      refine zW.cut hv ?_
      obtain rfl : i = n := by omega
      have hP : tryP s o m i 0 (fun i => s (183 + 5 * m + i)) (tset (wF w 23 b) 21 0 (-1)) := by
        refine ⟨by rw [tset_g (by decide), wF_n (by decide), w0, sPut_i], by rw [tset_g (by decide), wF_n (by decide)]; exact w13, by rw [tset_g (by decide), wF_n (by decide)]; exact w14, by rw [tset_g (by decide), wF_n (by decide)]; exact w15, ⟨fun i hi => by omega, fun i j hi => by omega⟩, fun k hk => Or.inl ?_, fun k hk => ?_, by rw [tset_s]; omega, Or.inl ⟨tset_s, fun c' _ hv => ?_⟩⟩
        · rw [tset_g (by decide), wF_n (by decide)]; exact hu k hk
        · rw [tset_g (by decide), wF_n (by decide), hu k (by omega)]
          exact ⟨fun z => by omega, fun ⟨j, hj, _⟩ => by omega⟩
        · obtain ⟨z, z1, -⟩ := hv; omega
      have rec9 := tw_try hA hO hm hn ho i 0 (by omega) _ _ hP
      refine z_iload_n K dX4_findBest_13 rfl rfl ?_
      refine z_iload_n K dX4_findBest_14 rfl rfl ?_
      refine j_icmp_ge (tgt := 36) K dX4_findBest_15 rfl (by omega) (by omega) (fun c_15 => ?_) (fun c_15 => ?_)
      · refine z_aload_n K dX4_findBest_36 rfl rfl rfl ?_
        refine j_iconst K dX4_findBest_37 ?_
        refine t_puti K fd_X4_246_0 ⟨_, rfl, Or.inl rfl⟩ (by decide) rfl rfl dX4_findBest_38 ?_
        refine z_aload_n K dX4_findBest_41 rfl rfl rfl ?_
        refine z_iload_n K dX4_findBest_42 rfl rfl ?_
        refine j_iconst K dX4_findBest_43 ?_
        refine t_callv K (rec9) cV_X4_249_X4 rfl rfl (by omega) (Nat.le_of_ble_eq_true rfl) (Nat.le_refl _) (Nat.le_refl _) dX4_findBest_44 ?_
        rintro W' ⟨c2, d1, d2, d3, d4, d5⟩
        refine j_iconst K dX4_findBest_47 ?_
        refine z_istore_n K dX4_findBest_48 rfl (by decide) rfl ?_
        have z := l2 W' c2 b d2 he (by rw [d3 23 (by decide), tset_g (by decide), wF_s]) (fun f hf => by rw [d3 f (fun e => hf (by revert e; simp; omega)), tset_g (fun e => hf (by rw [e]; decide)), wF_n (fun e => hf (by rw [e]; decide))]) d4 (d5.c fun c' hc' => ⟨fun _ => trivial, fun _ => Or.inr fun j hj => by omega⟩) i 0 (by omega)
        rw [sPut_0, ← d2, wF_i] at z
        exact z _ ⟨rfl, rfl, rfl, rfl, trivial⟩
      · exact absurd c_15 (by omega)
    | succ r ih =>
      intro i hi b he env hv
      refine zW.cut hv ?_
      have nx := ih (i + 1) (by omega) (sup b i (s (183 + 5 * m + i))) (fun j hj => by by_cases q : j = i; (rw [q, sup_s]); (rw [sup_n q]; exact he j (by omega)))
      clear ih
      refine z_iload_n K dX4_findBest_13 rfl rfl ?_
      refine z_iload_n K dX4_findBest_14 rfl rfl ?_
      refine j_icmp_ge (tgt := 36) K dX4_findBest_15 rfl (by omega) (by omega) (fun c_15 => ?_) (fun c_15 => ?_)
      · exact absurd c_15 (by omega)
      · refine z_aload_n K dX4_findBest_18 rfl rfl rfl ?_
        refine t_geta K fd_X4_55_0 rfl dX4_findBest_19 ?_
        refine z_iload_n K dX4_findBest_22 rfl rfl ?_
        refine z_aload_n K dX4_findBest_23 rfl rfl rfl ?_
        refine z_iload_n K dX4_findBest_24 rfl rfl ?_
        refine z_iload_n K dX4_findBest_25 rfl rfl ?_
        refine t_callp K (tw_ordered (by omega) (by omega)) cV_X4_142_X4 rfl rfl (by omega) (Nat.le_of_ble_eq_true rfl) (Nat.le_refl _) (Nat.le_refl _) dX4_findBest_26 ?_
        rw [wF_n (by decide), w0, show (183 + 5 * (m : Int) + (i : Int)).toNat = 183 + 5 * m + i by omega]
        refine t_ist K 23 5 rfl rfl rfl (by omega) (by omega) rfl dX4_findBest_29 ?_
        rw [Int.toNat_natCast, wF_t]
        refine j_iinc K dX4_findBest_30 rfl (by decide) rfl ?_
        refine z_goto (tgt := 13) K dX4_findBest_33 rfl ?_
        exact nx _ ⟨rfl, rfl, rfl, rfl, trivial⟩
  have go := l1 n 0 (by omega) (w 23) (fun j hj => by omega)
  rw [wF_i] at go
  clear l1 l2
  refine z_aload_n K dX4_findBest_0 rfl rfl rfl ?_
  refine t_geta K fd_X4_9_0 rfl dX4_findBest_1 ?_
  refine j_sipush K dX4_findBest_4 (by decide +kernel) ?_
  refine z_iload_n K dX4_findBest_7 rfl rfl ?_
  refine j_iadd K dX4_findBest_8 ?_
  refine t_ild K 0 203 rfl rfl rfl (by omega) (by omega) rfl dX4_findBest_9 ?_
  rw [eon]
  refine z_istore_n K dX4_findBest_10 rfl (by decide) rfl ?_
  refine j_iconst K dX4_findBest_11 ?_
  refine z_istore_n K dX4_findBest_12 rfl (by decide) rfl ?_
  exact go _ ⟨rfl, rfl, rfl, rfl, trivial⟩
theorem tw_takeBest {w : tW} {s : Nat → Int} {m n : Nat} (h0 : w 0 = s) (hm : m ≤ 3) (hn : sOn s m = n) (h5 : n ≤ 5) (hr : ∀ i : Nat, i < n → 0 ≤ s (183 + 5 * m + i) ∧ s (183 + 5 * m + i) ≤ 100) (hb : ∀ i : Nat, i < n → 0 ≤ w 20 i ∧ w 20 i ≤ 100) : tMi yX4_takeBest cX4_takeBest 4 .int 3 [.int (iI m)] w (fun v w' => v = dif s m (w 20) n ∧ w' = wF w 0 (sPut s m n (w 20))) := by
  refine zMet.of (by decide) (Nat.le_of_ble_eq_true rfl) fun X K => ?_
  have e20 : ∀ b, wF w 0 b 20 = w 20 := fun b => wF_n (by decide)
  have loop : ∀ (r i : Nat), i + r = n → ∀ env, zsub env [(0, .ref 1000), (1, .int (iI m)), (2, .int (iI (dif s m (w 20) i))), (3, .int (iI i))] → zW X (zPi fun x h' => ∃ v w', x = iI v ∧ h' = tH w' ∧ (v = dif s m (w 20) n ∧ w' = wF w 0 (sPut s m n (w 20)))) (tH (wF w 0 (sPut s m i (w 20)))) 0 0 4 env [] := by
    intro r
    induction r with
    | zero =>
      intro i hi env hv
      refine zW.cut hv ?_
      obtain rfl : i = n := by omega
      have eon : sPut s m i (w 20) (179 + (m : Int)).toNat = i := by rw [sPut_lo (by omega)]; exact hn
      refine z_iload_n K dX4_takeBest_4 rfl rfl ?_
      refine z_aload_n K dX4_takeBest_5 rfl rfl rfl ?_
      refine t_geta K fd_X4_9_0 rfl dX4_takeBest_6 ?_
      refine j_sipush K dX4_takeBest_9 (by decide +kernel) ?_
      refine z_iload_n K dX4_takeBest_12 rfl rfl ?_
      refine j_iadd K dX4_takeBest_13 ?_
      refine t_ild K 0 203 rfl rfl rfl (by omega) (by omega) rfl dX4_takeBest_14 ?_
      rw [wF_s, eon]
      refine j_icmp_ge (tgt := 59) K dX4_takeBest_15 rfl (by omega) (by omega) (fun c_15 => ?_) (fun c_15 => ?_)
      · refine z_iload_n K dX4_takeBest_59 rfl rfl ?_
        exact t_iret K (Nat.le_refl _) (Nat.le_refl _) (⟨rfl, rfl⟩) dX4_takeBest_60
      · exact absurd c_15 (by omega)
    | succ r ih =>
      intro i hi env hv
      refine zW.cut hv ?_
      have eon : sPut s m i (w 20) (179 + (m : Int)).toNat = n := by rw [sPut_lo (by omega)]; exact hn
      have eat : sPut s m i (w 20) (183 + 5 * (m : Int) + (i : Int)).toNat = s (183 + 5 * m + i) := by rw [show (183 + 5 * (m : Int) + (i : Int)).toNat = 183 + 5 * m + i by omega, sPut_lo (by omega)]
      have r1 := hr i (by omega)
      have r2 := hb i (by omega)
      have r3 := dif_r s m (w 20) i
      have ed : dif s m (w 20) (i + 1) = dif s m (w 20) i + if s (183 + 5 * m + i) = w 20 i then 0 else 1 := rfl
      have nx : ∀ x : Int, x = dif s m (w 20) (i + 1) → ∀ env, zsub env [(0, .ref 1000), (1, .int (iI m)), (2, .int (iI x)), (3, .int (iI ((i : Int) + 1)))] → zW X (zPi fun x h' => ∃ v w', x = iI v ∧ h' = tH w' ∧ (v = dif s m (w 20) n ∧ w' = wF w 0 (sPut s m n (w 20)))) (tH (wF w 0 (sPut s m (i + 1) (w 20)))) 0 0 4 env [] := fun x hx env he => ih (i + 1) (by omega) env (by rw [hx] at he; exact he)
      clear ih
      refine z_iload_n K dX4_takeBest_4 rfl rfl ?_
      refine z_aload_n K dX4_takeBest_5 rfl rfl rfl ?_
      refine t_geta K fd_X4_9_0 rfl dX4_takeBest_6 ?_
      refine j_sipush K dX4_takeBest_9 (by decide +kernel) ?_
      refine z_iload_n K dX4_takeBest_12 rfl rfl ?_
      refine j_iadd K dX4_takeBest_13 ?_
      refine t_ild K 0 203 rfl rfl rfl (by omega) (by omega) rfl dX4_takeBest_14 ?_
      rw [wF_s, eon]
      refine j_icmp_ge (tgt := 59) K dX4_takeBest_15 rfl (by omega) (by omega) (fun c_15 => ?_) (fun c_15 => ?_)
      · exact absurd c_15 (by omega)
      · refine z_iload_n K dX4_takeBest_18 rfl rfl ?_
        refine z_aload_n K dX4_takeBest_19 rfl rfl rfl ?_
        refine z_iload_n K dX4_takeBest_20 rfl rfl ?_
        refine z_iload_n K dX4_takeBest_21 rfl rfl ?_
        refine t_callp K (tw_ordered (by omega) (by omega)) cV_X4_142_X4 rfl rfl (by decide) (Nat.le_of_ble_eq_true rfl) (Nat.le_refl _) (Nat.le_refl _) dX4_takeBest_22 ?_
        rw [wF_s, eat]
        refine z_aload_n K dX4_takeBest_25 rfl rfl rfl ?_
        refine t_geta K fd_X4_49_0 rfl dX4_takeBest_26 ?_
        refine z_iload_n K dX4_takeBest_29 rfl rfl ?_
        refine t_ild K 20 5 rfl rfl rfl (by omega) (by omega) rfl dX4_takeBest_30 ?_
        rw [e20, Int.toNat_natCast]
        refine j_icmp_eq (tgt := 38) K dX4_takeBest_31 rfl (by omega) (by omega) (fun c_31 => ?_) (fun c_31 => ?_)
        · refine j_iconst K dX4_takeBest_38 ?_
          refine j_iadd K dX4_takeBest_39 ?_
          refine z_istore_n K dX4_takeBest_40 rfl (by decide) rfl ?_
          refine z_aload_n K dX4_takeBest_41 rfl rfl rfl ?_
          refine z_iload_n K dX4_takeBest_42 rfl rfl ?_
          refine z_iload_n K dX4_takeBest_43 rfl rfl ?_
          refine z_aload_n K dX4_takeBest_44 rfl rfl rfl ?_
          refine t_geta K fd_X4_49_0 rfl dX4_takeBest_45 ?_
          refine z_iload_n K dX4_takeBest_48 rfl rfl ?_
          refine t_ild K 20 5 rfl rfl rfl (by omega) (by omega) rfl dX4_takeBest_49 ?_
          rw [e20, Int.toNat_natCast]
          refine t_callv K (tw_setOrdered (by omega) (by omega)) cV_X4_114_X4 rfl rfl (by decide) (Nat.le_of_ble_eq_true rfl) (Nat.le_refl _) (Nat.le_refl _) dX4_takeBest_50 ?_
          rintro _ rfl
          rw [show (183 + 5 * (m : Int) + (i : Int)).toNat = 183 + 5 * m + i by omega, wF_t, sPut_n]
          refine j_iinc K dX4_takeBest_53 rfl (by decide) rfl ?_
          refine z_goto (tgt := 4) K dX4_takeBest_56 rfl ?_
          exact nx _ (by rw [ed]; split <;> omega) _ ⟨rfl, rfl, rfl, rfl, trivial⟩
        · refine j_iconst K dX4_takeBest_34 ?_
          refine z_goto (tgt := 39) K dX4_takeBest_35 rfl ?_
          refine j_iadd K dX4_takeBest_39 ?_
          refine z_istore_n K dX4_takeBest_40 rfl (by decide) rfl ?_
          refine z_aload_n K dX4_takeBest_41 rfl rfl rfl ?_
          refine z_iload_n K dX4_takeBest_42 rfl rfl ?_
          refine z_iload_n K dX4_takeBest_43 rfl rfl ?_
          refine z_aload_n K dX4_takeBest_44 rfl rfl rfl ?_
          refine t_geta K fd_X4_49_0 rfl dX4_takeBest_45 ?_
          refine z_iload_n K dX4_takeBest_48 rfl rfl ?_
          refine t_ild K 20 5 rfl rfl rfl (by omega) (by omega) rfl dX4_takeBest_49 ?_
          rw [e20, Int.toNat_natCast]
          refine t_callv K (tw_setOrdered (by omega) (by omega)) cV_X4_114_X4 rfl rfl (by decide) (Nat.le_of_ble_eq_true rfl) (Nat.le_refl _) (Nat.le_refl _) dX4_takeBest_50 ?_
          rintro _ rfl
          rw [show (183 + 5 * (m : Int) + (i : Int)).toNat = 183 + 5 * m + i by omega, wF_t, sPut_n]
          refine j_iinc K dX4_takeBest_53 rfl (by decide) rfl ?_
          refine z_goto (tgt := 4) K dX4_takeBest_56 rfl ?_
          exact nx _ (by rw [ed]; split <;> omega) _ ⟨rfl, rfl, rfl, rfl, trivial⟩
  have go := loop n 0 (by omega)
  rw [sPut_0, ← h0, wF_i] at go
  clear loop
  rw [← h0]
  refine j_iconst K dX4_takeBest_0 ?_
  refine z_istore_n K dX4_takeBest_1 rfl (by decide) rfl ?_
  refine j_iconst K dX4_takeBest_2 ?_
  refine z_istore_n K dX4_takeBest_3 rfl (by decide) rfl ?_
  exact go _ ⟨rfl, rfl, rfl, rfl, trivial⟩

