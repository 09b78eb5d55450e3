/-! ===== the reference: changes of the orders ===== -/
def wXc (w : tW) (m p : Int) : tW := tset (tset w 0 (183 + 5 * m + p).toNat (w 0 (183 + 5 * m + (p + 1)).toNat)) 0 (183 + 5 * m + (p + 1)).toNat (w 0 (183 + 5 * m + p).toNat)
theorem wXc_0 {w : tW} {m p : Int} : wXc w m p 0 = sXc (w 0) m p := sXc_t
theorem wXc_f {w : tW} {m p : Int} {f : Nat} (h : f ≠ 0) : wXc w m p f = w f := by
  funext i
  unfold wXc
  rw [tset_f h, tset_f h]
theorem tw_exchange {w : tW} {m p : Int} (hm : 0 ≤ m ∧ m ≤ 3) (hp : 0 ≤ p ∧ p < 4) : tMv yX4_exchange cX4_exchange 4 2 [.int (iI m), .int (iI p)] w (fun w' => w' = wXc w m p) := by
  refine zMet.of (by decide) (Nat.le_of_ble_eq_true rfl) fun X K => ?_
  refine z_aload_n K dX4_exchange_0 rfl rfl rfl ?_
  refine z_iload_n K dX4_exchange_1 rfl rfl ?_
  refine z_iload_n K dX4_exchange_2 rfl rfl ?_
  refine t_callp K (tw_ordered (by omega) (by omega)) cV_X4_142_X4 rfl rfl (by decide) (Nat.le_of_ble_eq_true rfl) (Nat.le_refl _) (Nat.le_refl _) dX4_exchange_3 ?_
  refine z_istore_n K dX4_exchange_6 rfl (by decide) rfl ?_
  refine z_aload_n K dX4_exchange_7 rfl rfl rfl ?_
  refine z_iload_n K dX4_exchange_8 rfl rfl ?_
  refine z_iload_n K dX4_exchange_9 rfl rfl ?_
  refine z_aload_n K dX4_exchange_10 rfl rfl rfl ?_
  refine z_iload_n K dX4_exchange_11 rfl rfl ?_
  refine z_iload_n K dX4_exchange_12 rfl rfl ?_
  refine j_iconst K dX4_exchange_13 ?_
  refine j_iadd K dX4_exchange_14 ?_
  refine t_callp K (tw_ordered (by omega) (by omega)) cV_X4_142_X4 rfl rfl (by decide) (Nat.le_of_ble_eq_true rfl) (Nat.le_refl _) (Nat.le_refl _) dX4_exchange_15 ?_
  refine t_callv K (tw_setOrdered (by omega) (by omega)) cV_X4_114_X4 rfl rfl (by decide) (Nat.le_of_ble_eq_true rfl) (Nat.le_refl _) (Nat.le_refl _) dX4_exchange_18 ?_
  rintro _ rfl
  refine z_aload_n K dX4_exchange_21 rfl rfl rfl ?_
  refine z_iload_n K dX4_exchange_22 rfl rfl ?_
  refine z_iload_n K dX4_exchange_23 rfl rfl ?_
  refine j_iconst K dX4_exchange_24 ?_
  refine j_iadd K dX4_exchange_25 ?_
  refine z_iload_n K dX4_exchange_26 rfl rfl ?_
  refine t_callv K (tw_setOrdered (by omega) (by omega)) cV_X4_114_X4 rfl rfl (by decide) (Nat.le_of_ble_eq_true rfl) (Nat.le_refl _) (Nat.le_refl _) dX4_exchange_27 ?_
  rintro _ rfl
  exact t_vret K (Nat.le_refl _) (Nat.le_refl _) (rfl) dX4_exchange_30
/-- the first operation without a time -/
def isFst (st : Nat → Int) (n : Nat) (x : Int) : Prop := (0 ≤ x ∧ x < n) ∧ st x.toNat < 0 ∧ ∀ i : Nat, (i : Int) < x → 0 ≤ st i
theorem isFst.ex {st : Nat → Int} {n : Nat} (h : cntU st n ≠ 0) : ∃ x, isFst st n x := by
  have : ∀ r i : Nat, i + r = n → (∀ j : Nat, j < i → 0 ≤ st j) → ∃ x, isFst st n x := by
    intro r
    induction r with
    | zero => intro i hi hj; exact absurd (cntU_0.mpr (fun j hj9 => hj j (by omega))) h
    | succ r ih =>
      intro i hi hj
      rcases Int.lt_or_le (st i) 0 with q | q
      · exact ⟨i, by omega, by rw [Int.toNat_natCast]; exact q, fun j hj9 => hj j (by omega)⟩
      · exact ih (i + 1) (by omega) (fun j hj9 => by rcases (by omega : j = i ∨ j < i) with c | c; (rw [c]; exact q); exact hj j c)
  exact this n 0 (by omega) (fun j hj => by omega)
theorem tw_failsByCycle {w : tW} {bb : Int} (hbb : 500 ≤ bb ∧ bb ≤ 3200) (hhb : w 14 0 = -1 ∨ w 15 0 ≤ bb) (hA : WfA (w 0)) (hO : WfO (w 0)) (ho : ∀ m : Nat, m < 4 → 0 ≤ w 13 m ∧ w 13 m ≤ 1) (hd : -1 ≤ w 14 0 ∧ w 14 0 ≤ 100) (hu : 0 ≤ w 15 0 ∧ w 15 0 ≤ 3000) :
    tMi yX4_failsByCycle cX4_failsByCycle 3 .boolean 6 [] w (fun v w' => ∃ rd st, fT w bb rd st ∧ ((cntU st (w 0 1).toNat = 0 ∧ v = 0 ∧ w' = wt w rd st) ∨ (cntU st (w 0 1).toNat ≠ 0 ∧ v = 1 ∧ ∃ x, isFst st (w 0 1).toNat x ∧ w' = wFail (wt w rd st) 3 1 (100 + x) (cntU st (w 0 1).toNat) 0))) := by
  have h20 := hA.2.1.1
  refine zMet.of (by decide) (Nat.le_of_ble_eq_true rfl) fun X K => ?_
  have find : ∀ rd st, fT w bb rd st → cntU st (w 0 1).toNat ≠ 0 → ∀ env, zsub env [(0, .ref 1000), (1, .int (iI (cntU st (w 0 1).toNat)))] → zW X (zPi fun x h' => ∃ v w', x = iI v ∧ h' = tH w' ∧ ∃ rd st, fT w bb rd st ∧ ((cntU st (w 0 1).toNat = 0 ∧ v = 0 ∧ w' = wt w rd st) ∨ (cntU st (w 0 1).toNat ≠ 0 ∧ v = 1 ∧ ∃ x, isFst st (w 0 1).toNat x ∧ w' = wFail (wt w rd st) 3 1 (100 + x) (cntU st (w 0 1).toNat) 0))) (tH (wt w rd st)) 0 0 11 env [] := by
    intro rd st hT hc env he
    obtain ⟨x, hx⟩ := isFst.ex hc
    refine zW.cut he ?_
    have loop : ∀ (r : Nat) (i : Int), 0 ≤ i → i + r = x → ∀ env, zsub env [(0, .ref 1000), (1, .int (iI (cntU st (w 0 1).toNat))), (2, .int (iI i))] → zW X (zPi fun x h' => ∃ v w', x = iI v ∧ h' = tH w' ∧ ∃ rd st, fT w bb rd st ∧ ((cntU st (w 0 1).toNat = 0 ∧ v = 0 ∧ w' = wt w rd st) ∨ (cntU st (w 0 1).toNat ≠ 0 ∧ v = 1 ∧ ∃ x, isFst st (w 0 1).toNat x ∧ w' = wFail (wt w rd st) 3 1 (100 + x) (cntU st (w 0 1).toNat) 0))) (tH (wt w rd st)) 0 0 13 env [] := by
      intro r
      have e12 : ∀ i, wt w rd st 12 i = st i := fun i => rfl
      have hxr := hx.1
      induction r with
      | zero =>
        intro i i0 hi env he
        obtain rfl : i = x := by omega
        refine zW.cut he ?_
        have hb := hT.2.2 i.toNat (by omega)
        have hs := hx.2.1
        refine z_aload_n K dX4_failsByCycle_13 rfl rfl rfl ?_
        refine t_geta K fd_X4_29_0 rfl dX4_failsByCycle_14 ?_
        refine z_iload_n K dX4_failsByCycle_17 rfl rfl ?_
        refine t_ild K 12 20 rfl rfl rfl (by omega) (by omega) rfl dX4_failsByCycle_18 ?_
        refine j_if_lt (tgt := 28) K dX4_failsByCycle_19 rfl (by rw [e12]; omega) (fun c_19 => ?_) (fun c_19 => ?_)
        · rw [e12] at c_19
          refine z_aload_n K dX4_failsByCycle_28 rfl rfl rfl ?_
          refine j_iconst K dX4_failsByCycle_29 ?_
          refine j_iconst K dX4_failsByCycle_30 ?_
          refine j_bipush K dX4_failsByCycle_31 (by decide +kernel) ?_
          refine z_iload_n K dX4_failsByCycle_33 rfl rfl ?_
          refine j_iadd K dX4_failsByCycle_34 ?_
          refine z_iload_n K dX4_failsByCycle_35 rfl rfl ?_
          refine j_iconst K dX4_failsByCycle_36 ?_
          refine t_callv K (tw_fail) cV_X4_217_X4 rfl rfl (by decide) (Nat.le_of_ble_eq_true rfl) (Nat.le_refl _) (Nat.le_refl _) dX4_failsByCycle_37 ?_
          rintro _ rfl
          refine j_iconst K dX4_failsByCycle_40 ?_
          exact t_zret K (by omega) (Nat.le_refl _) (Nat.le_refl _) (⟨rd, st, hT, Or.inr ⟨hc, rfl, i, hx, rfl⟩⟩) dX4_failsByCycle_41
        · rw [e12] at c_19
          exact absurd c_19 (by omega)
      | succ r ih =>
        intro i i0 hi env he
        refine zW.cut he ?_
        have hb := hT.2.2 i.toNat (by omega)
        have hs := hx.2.2 i.toNat (by omega)
        refine z_aload_n K dX4_failsByCycle_13 rfl rfl rfl ?_
        refine t_geta K fd_X4_29_0 rfl dX4_failsByCycle_14 ?_
        refine z_iload_n K dX4_failsByCycle_17 rfl rfl ?_
        refine t_ild K 12 20 rfl rfl rfl (by omega) (by omega) rfl dX4_failsByCycle_18 ?_
        refine j_if_lt (tgt := 28) K dX4_failsByCycle_19 rfl (by rw [e12]; omega) (fun c_19 => ?_) (fun c_19 => ?_)
        · rw [e12] at c_19
          exact absurd c_19 (by omega)
        · refine j_iinc K dX4_failsByCycle_22 rfl (by decide) rfl ?_
          refine z_goto (tgt := 13) K dX4_failsByCycle_25 rfl ?_
          exact ih (i + 1) (by omega) (by omega) _ ⟨rfl, rfl, rfl, trivial⟩
    refine j_iconst K dX4_failsByCycle_11 ?_
    refine z_istore_n K dX4_failsByCycle_12 rfl (by decide) rfl ?_
    exact loop x.toNat 0 (by omega) (by have := hx.1; omega) _ ⟨rfl, rfl, rfl, trivial⟩
  refine z_aload_n K dX4_failsByCycle_0 rfl rfl rfl ?_
  refine t_calli K (tw_findTimes hbb hhb hA hO ho hd hu) cV_X4_181_X4 rfl rfl (by decide) (Nat.le_of_ble_eq_true rfl) (Nat.le_refl _) (Nat.le_refl _) dX4_failsByCycle_1 ?_
  rintro _ _ ⟨rd, st, rfl, hT, rfl⟩
  refine z_istore_n K dX4_failsByCycle_4 rfl (by decide) rfl ?_
  refine z_iload_n K dX4_failsByCycle_5 rfl rfl ?_
  refine j_if_ne (tgt := 11) K dX4_failsByCycle_6 rfl (by have := cntU_r st (w 0 1).toNat; omega) (fun c_6 => ?_) (fun c_6 => ?_)
  · exact find rd st hT c_6 _ ⟨rfl, rfl, trivial⟩
  · refine j_iconst K dX4_failsByCycle_9 ?_
    exact t_zret K (by omega) (Nat.le_refl _) (Nat.le_refl _) (⟨rd, st, hT, Or.inl ⟨c_6, rfl, rfl⟩⟩) dX4_failsByCycle_10
/-- what a change of an order to the row s1 ends with -/
def chg (w : tW) (s1 : Nat → Int) (v : Int) (w' : tW) : Prop := ∃ rd st, Tp s1 (w 13) (-1) 0 rd st ∧ Tq s1 (w 13) st ∧ Fr [0, 3, 6, 7, 11, 12] w w' ∧ ((cntU st (s1 1).toNat = 0 ∧ v = gEnd s1 st (s1 1).toNat ∧ w' 0 = s1 ∧ w' 3 0 = 0 ∧ w' 6 = w 6 ∧ w' 7 = w 7) ∨ (cntU st (s1 1).toNat ≠ 0 ∧ (∀ i : Nat, i < 203 → w' 0 i = w 0 i) ∧ w' 3 0 = 3 ∧ ∃ x, isFst st (s1 1).toNat x ∧ w' 7 0 = 3 ∧ w' 6 0 = 1 ∧ w' 6 1 = 100 + x ∧ w' 6 2 = cntU st (s1 1).toNat ∧ w' 6 3 = 0))
noncomputable def tcSwap (w : tW) (m p : Int) : Int := if ¬ (0 ≤ m ∧ m ≤ 3) then 1 else if ¬ (0 ≤ p ∧ p ≤ w 0 (179 + m).toNat - 2) then 2 else 0
theorem wFail_f {w : tW} {n a b c e : Int} {f : Nat} (h6 : f ≠ 6) (h7 : f ≠ 7) : wFail w n a b c e f = w f := by
  funext i
  unfold wFail
  rw [tset_f h6, tset_f h6, tset_f h6, tset_f h6, tset_f h7]
theorem wFail_67 {w : tW} {n a b c e : Int} : wFail w n a b c e 7 0 = n ∧ wFail w n a b c e 6 0 = a ∧ wFail w n a b c e 6 1 = b ∧ wFail w n a b c e 6 2 = c ∧ wFail w n a b c e 6 3 = e := by
  unfold wFail tset
  simp
theorem tw_swap {w : tW} {m p : Int} (hm : -2147483648 ≤ m ∧ m ≤ 2147483647) (hp : -2147483648 ≤ p ∧ p ≤ 2147483647) (hI : TI w) :
    tMi yX4_swap cX4_swap 3 .int 7 [.int (iI m), .int (iI p)] w (pubQ w (tcSwap w m p) (chg w (sXc (w 0) m p))) := by
  refine zMet.of (by decide) (Nat.le_of_ble_eq_true rfl) fun X K => ?_
  have hA := hI.1
  have hO := hI.2.1
  have tail : ∀ t : Int, t = tcSwap w m p → 0 ≤ t ∧ t ≤ 3 → (t = 0 → (0 ≤ m ∧ m ≤ 3) ∧ 0 ≤ p ∧ p ≤ w 0 (179 + m).toNat - 2) → ∀ env, zsub env [(0, .ref 1000), (1, .int (iI m)), (2, .int (iI p))] → zW X (zPi fun x h' => ∃ v9 w', x = iI v9 ∧ h' = tH w' ∧ pubQ w (tcSwap w m p) (chg w (sXc (w 0) m p)) v9 w') (tH w) 0 0 39 env [.int (iI t), .ref 1000] := by
    intro t ht hr h5 env he
    refine zW.cut he ?_
    have fin1 : ∀ (rd st : Nat → Int) (w1 : tW) (m p x c : Int), w1 0 = sXc (w 0) m p → (∀ f, f ≠ 0 → f ≠ 3 → w1 f = w f) → Fr [0, 3, 6, 7, 11, 12] w (tset (wXc (wFail (wt w1 rd st) 3 1 (100 + x) c 0) m p) 3 0 3) := fun rd st w1 m p x c f0 ff f hf => by have n0 : f ≠ 0 := fun e => hf (by rw [e]; decide); have n3 : f ≠ 3 := fun e => hf (by rw [e]; decide); have e1 : tset (wXc (wFail (wt w1 rd st) 3 1 (100 + x) c 0) m p) 3 0 3 f = wXc (wFail (wt w1 rd st) 3 1 (100 + x) c 0) m p f := (by funext i; exact tset_f n3); rw [e1, wXc_f n0, wFail_f (fun e => hf (by rw [e]; decide)) (fun e => hf (by rw [e]; decide)), wt_o (fun e => hf (by rw [e]; decide)) (fun e => hf (by rw [e]; decide)), ff f n0 n3]
    have fin2 : ∀ (rd st : Nat → Int) (w1 : tW) (m p x c : Int), 0 ≤ m → 0 ≤ p → w1 0 = sXc (w 0) m p → ∀ i : Nat, i < 203 → tset (wXc (wFail (wt w1 rd st) 3 1 (100 + x) c 0) m p) 3 0 3 0 i = w 0 i := fun rd st w1 m p x c m0 p0 f0 i _ => by rw [tset_f (by decide), wXc_0, wFail_f (by decide) (by decide), wt_o (by decide) (by decide), f0, sXc_twice m0 p0]
    have fin3 : ∀ (rd st : Nat → Int) (w1 : tW) (m p x c : Int), tset (wXc (wFail (wt w1 rd st) 3 1 (100 + x) c 0) m p) 3 0 3 7 0 = 3 ∧ tset (wXc (wFail (wt w1 rd st) 3 1 (100 + x) c 0) m p) 3 0 3 6 0 = 1 ∧ tset (wXc (wFail (wt w1 rd st) 3 1 (100 + x) c 0) m p) 3 0 3 6 1 = 100 + x ∧ tset (wXc (wFail (wt w1 rd st) 3 1 (100 + x) c 0) m p) 3 0 3 6 2 = c ∧ tset (wXc (wFail (wt w1 rd st) 3 1 (100 + x) c 0) m p) 3 0 3 6 3 = 0 := fun rd st w1 m p x c => by rw [tset_f (by decide), tset_f (by decide), tset_f (by decide), tset_f (by decide), tset_f (by decide), wXc_f (by decide), wXc_f (by decide)]; exact wFail_67
    refine t_puti K fd_X4_79_0 ⟨_, rfl, Or.inl rfl⟩ (by decide) rfl rfl dX4_swap_39 ?_
    refine z_aload_n K dX4_swap_42 rfl rfl rfl ?_
    refine t_geti K fd_X4_79_0 (by decide) rfl dX4_swap_43 ?_
    refine j_if_le (tgt := 51) K dX4_swap_46 rfl (by rw [tset_s]; omega) (fun c_46 => ?_) (fun c_46 => ?_)
    · rw [tset_s] at c_46
      obtain rfl : t = 0 := by omega
      have h7 := h5 rfl
      have h8 := (hO m h7.1.1 h7.1.2).1
      have hA1 : WfA (sXc (w 0) m p) := sXc_A h7.1.1 h7.2.1 hA
      have hO1 : WfO (sXc (w 0) m p) := sXc_O hA hO h7.1 (by (try dsimp only [sRel, sDue, sWt, sLen, sSeq, sJb, sMc, sDu, sFa, sIx, sSu, sBn, sBf, sBl, sOn, sOr] at *); omega)
      (try dsimp only [sRel, sDue, sWt, sLen, sSeq, sJb, sMc, sDu, sFa, sIx, sSu, sBn, sBf, sBl, sOn, sOr] at *)
      refine z_aload_n K dX4_swap_51 rfl rfl rfl ?_
      refine z_iload_n K dX4_swap_52 rfl rfl ?_
      refine z_iload_n K dX4_swap_53 rfl rfl ?_
      refine t_callv K (tw_exchange (w := tset w 3 0 0) (by omega) (by omega)) cV_X4_221_X4 rfl rfl (by decide) (Nat.le_of_ble_eq_true rfl) (Nat.le_refl _) (Nat.le_refl _) dX4_swap_54 ?_
      rintro _ rfl
      generalize hw1 : wXc (tset w 3 0 0) m p = w1
      have f0 : w1 0 = sXc (w 0) m p := by rw [← hw1]; exact wXc_0
      have ff : ∀ f, f ≠ 0 → f ≠ 3 → w1 f = w f := fun f f0 f3 => by rw [← hw1, wXc_f f0]; funext i; exact tset_f f3
      have f3 : w1 3 0 = 0 := by rw [← hw1, wXc_f (by decide), tset_s]
      refine z_aload_n K dX4_swap_57 rfl rfl rfl ?_
      refine t_calli K (tw_failsByCycle (w := w1) (bb := 500) (by omega) (Or.inl (by rw [ff 14 (by decide) (by decide)]; exact hI.2.2.2.1)) (by rw [f0]; exact hA1) (by rw [f0]; exact hO1) (by rw [ff 13 (by decide) (by decide)]; exact hI.ho) (by rw [ff 14 (by decide) (by decide), hI.2.2.2.1]; omega) (by rw [ff 15 (by decide) (by decide)]; exact hI.2.2.2.2.1)) cV_X4_225_X4 rfl rfl (by decide) (Nat.le_of_ble_eq_true rfl) (Nat.le_refl _) (Nat.le_refl _) dX4_swap_58 ?_
      rintro v1 w2 ⟨rd, st, hT, hc⟩
      have hTp : Tp (sXc (w 0) m p) (w 13) (-1) 0 rd st := by have := hT.1; rw [f0, ff 13 (by decide) (by decide), ff 14 (by decide) (by decide), hI.2.2.2.1] at this; exact this.hu
      have hTq : Tq (sXc (w 0) m p) (w 13) st := by have := hT.2.1; rw [f0, ff 13 (by decide) (by decide)] at this; exact this
      rw [f0] at hc
      refine j_if_eq (tgt := 77) K dX4_swap_61 rfl (by rcases hc with ⟨-, q, -⟩ | ⟨-, q, -⟩ <;> omega) (fun c_61 => ?_) (fun c_61 => ?_)
      · obtain ⟨hc0, -, rfl⟩ := hc.resolve_right (fun q => by omega)
        refine z_aload_n K dX4_swap_77 rfl rfl rfl ?_
        refine t_callp K (tw_greatestEnd (w := wt w1 rd st) (by show WfA (w1 0); rw [f0]; exact hA1) (fun i hi => by have := hT.2.2 i hi; exact ⟨this.1, by show st i ≤ 4000; omega⟩)) cV_X4_185_X4 rfl rfl (by decide) (Nat.le_of_ble_eq_true rfl) (Nat.le_refl _) (Nat.le_refl _) dX4_swap_78 ?_
        exact t_iret K (Nat.le_refl _) (Nat.le_refl _) (⟨fun q => ⟨rd, st, hTp, hTq, (fun f hf => by rw [wt_o (fun e => hf (by rw [e]; decide)) (fun e => hf (by rw [e]; decide))]; exact ff f (fun e => hf (by rw [e]; decide)) (fun e => hf (by rw [e]; decide))), Or.inl ⟨hc0, by show gEnd (w1 0) st (w1 0 1).toNat = _; rw [f0], f0, f3, ff 6 (by decide) (by decide), ff 7 (by decide) (by decide)⟩⟩, fun q => absurd ht.symm q⟩) dX4_swap_81
      · obtain ⟨hc0, -, x, hx, rfl⟩ := hc.resolve_left (fun q => by omega)
        refine z_aload_n K dX4_swap_64 rfl rfl rfl ?_
        refine z_iload_n K dX4_swap_65 rfl rfl ?_
        refine z_iload_n K dX4_swap_66 rfl rfl ?_
        refine t_callv K (tw_exchange (by omega) (by omega)) cV_X4_221_X4 rfl rfl (by decide) (Nat.le_of_ble_eq_true rfl) (Nat.le_refl _) (Nat.le_refl _) dX4_swap_67 ?_
        rintro _ rfl
        refine z_aload_n K dX4_swap_70 rfl rfl rfl ?_
        refine j_iconst K dX4_swap_71 ?_
        refine t_puti K fd_X4_79_0 ⟨_, rfl, Or.inl rfl⟩ (by decide) rfl rfl dX4_swap_72 ?_
        refine j_iconst K dX4_swap_75 ?_
        exact t_iret K (Nat.le_refl _) (Nat.le_refl _) (⟨fun q => ⟨rd, st, hTp, hTq, fin1 rd st w1 m p x _ f0 ff, Or.inr ⟨hc0, fin2 rd st w1 m p x _ h7.1.1 h7.2.1 f0, tset_s, x, hx, fin3 rd st w1 m p x _⟩⟩, fun q => absurd ht.symm q⟩) dX4_swap_76
    · rw [tset_s] at c_46
      refine j_iconst K dX4_swap_49 ?_
      exact t_iret K (Nat.le_refl _) (Nat.le_refl _) (⟨fun q => by omega, fun q => by rw [ht]⟩) dX4_swap_50
  refine z_aload_n K dX4_swap_0 rfl rfl rfl ?_
  refine z_iload_n K dX4_swap_1 rfl rfl ?_
  refine z_calls K (s_isMachine (by omega)) cS_X4_122 rfl rfl (by decide) (Nat.le_of_ble_eq_true rfl) (Nat.le_refl _) (Nat.le_refl _) dX4_swap_2 ?_
  refine j_if_ne (tgt := 12) K dX4_swap_5 rfl (b01r _) (fun c_5 => ?_) (fun c_5 => ?_)
  · rw [bI_ne] at c_5
    have h8 := (hO m c_5.1 c_5.2).1
    (try dsimp only [sRel, sDue, sWt, sLen, sSeq, sJb, sMc, sDu, sFa, sIx, sSu, sBn, sBf, sBl, sOn, sOr] at *)
    refine z_iload_n K dX4_swap_12 rfl rfl ?_
    refine j_i2l K (by omega) dX4_swap_13 ?_
    refine j_lconst0 K dX4_swap_14 ?_
    refine z_aload_n K dX4_swap_15 rfl rfl rfl ?_
    refine t_geta K fd_X4_9_0 rfl dX4_swap_16 ?_
    refine j_sipush K dX4_swap_19 (by decide +kernel) ?_
    refine z_iload_n K dX4_swap_22 rfl rfl ?_
    refine j_iadd K dX4_swap_23 ?_
    refine t_ild K 0 203 rfl rfl rfl (by omega) (by omega) rfl dX4_swap_24 ?_
    refine j_iconst K dX4_swap_25 ?_
    refine j_isub K dX4_swap_26 ?_
    refine j_i2l K (by omega) dX4_swap_27 ?_
    refine z_calls K (s_in (by omega) (by omega) (by omega)) cS_X4_82 rfl rfl (by decide) (Nat.le_of_ble_eq_true rfl) (Nat.le_refl _) (Nat.le_refl _) dX4_swap_28 ?_
    refine j_if_ne (tgt := 38) K dX4_swap_31 rfl (b01r _) (fun c_31 => ?_) (fun c_31 => ?_)
    · rw [bI_ne] at c_31
      refine j_iconst K dX4_swap_38 ?_
      exact tail _ (by unfold tcSwap; simp [*]) (by omega) (by omega) _ ⟨rfl, rfl, rfl, trivial⟩
    · rw [bI_eq] at c_31
      refine j_iconst K dX4_swap_34 ?_
      refine z_goto (tgt := 39) K dX4_swap_35 rfl ?_
      exact tail _ (by unfold tcSwap; simp [*]) (by omega) (by omega) _ ⟨rfl, rfl, rfl, trivial⟩
  · rw [bI_eq] at c_5
    refine j_iconst K dX4_swap_8 ?_
    refine z_goto (tgt := 39) K dX4_swap_9 rfl ?_
    exact tail _ (by unfold tcSwap; simp [*]) (by omega) (by omega) _ ⟨rfl, rfl, rfl, trivial⟩

