/-! ===== the reference: shift, move ===== -/
theorem wXc_r {w : tW} {m p : Int} : wXc w m p = wRow w (sXc (w 0) m p) := by
  rw [← wXc_0]
  exact wRow_e fun f hf => wXc_f hf
theorem tw_shift {w : tW} {m a b : Int} (hm : 0 ≤ m ∧ m ≤ 3) (ha : 0 ≤ a ∧ a ≤ 4) (hb : 0 ≤ b ∧ b ≤ 4) : tMv yX4_shift cX4_shift 5 3 [.int (iI m), .int (iI a), .int (iI b)] w (fun w' => w' = wRow w (sSh (w 0) m a b)) := by
  refine zMet.of (by decide) (Nat.le_of_ble_eq_true rfl) fun X K => ?_
  have dn : ∀ s1, s1 = sUp (w 0) m a (b - a).toNat → ∀ (r n : Nat), (n : Int) + r = (a - b).toNat → ∀ env, zsub env [(0, .ref 1000), (1, .int (iI m)), (2, .int (iI a)), (3, .int (iI b)), (4, .int (iI (a - n)))] → zW X (zPv fun h' => ∃ w', h' = tH w' ∧ w' = wRow w (sSh (w 0) m a b)) (tH (wRow w (sDn s1 m a n))) 0 0 25 env [] := by
    intro s1 hs1 r
    induction r with
    | zero =>
      intro n hn env he
      refine zW.cut he ?_
      refine z_iload K dX4_shift_25 rfl ?_
      refine z_iload_n K dX4_shift_27 rfl rfl ?_
      refine j_icmp_le (tgt := 46) K dX4_shift_28 rfl (by omega) (by omega) (fun c_28 => ?_) (fun c_28 => ?_)
      · exact t_vret K (Nat.le_refl _) (Nat.le_refl _) (by rw [hs1, show n = (a - b).toNat by omega]; rfl) dX4_shift_46
      · exact absurd c_28 (by omega)
    | succ r ih =>
      intro n hn env he
      refine zW.cut he ?_
      have fin : ∀ x : Int, x = a - n - 1 → ∀ env, zsub env [(0, .ref 1000), (1, .int (iI m)), (2, .int (iI a)), (3, .int (iI b)), (4, .int (iI x))] → zW X (zPv fun h' => ∃ w', h' = tH w' ∧ w' = wRow w (sSh (w 0) m a b)) (tH (wXc (wRow w (sDn s1 m a n)) m (a - n - 1))) 0 0 25 env [] := fun x hx env he => by
        rw [wXc_r, wRow_w, wRow_0]
        exact ih (n + 1) (by omega) env (by rw [hx, show a - (n : Int) - 1 = a - ((n + 1 : Nat) : Int) by omega] at he; exact he)
      refine z_iload K dX4_shift_25 rfl ?_
      refine z_iload_n K dX4_shift_27 rfl rfl ?_
      refine j_icmp_le (tgt := 46) K dX4_shift_28 rfl (by omega) (by omega) (fun c_28 => ?_) (fun c_28 => ?_)
      · exact absurd c_28 (by omega)
      · refine z_aload_n K dX4_shift_31 rfl rfl rfl ?_
        refine z_iload_n K dX4_shift_32 rfl rfl ?_
        refine z_iload K dX4_shift_33 rfl ?_
        refine j_iconst K dX4_shift_35 ?_
        refine j_isub K dX4_shift_36 ?_
        refine t_callv K (tw_exchange (by omega) (by omega)) cV_X4_221_X4 rfl rfl (by decide) (Nat.le_of_ble_eq_true rfl) (Nat.le_refl _) (Nat.le_refl _) dX4_shift_37 ?_
        rintro _ rfl
        refine j_iinc K dX4_shift_40 rfl (by decide) rfl ?_
        refine z_goto (tgt := 25) K dX4_shift_43 rfl ?_
        exact fin _ (by omega) _ ⟨rfl, rfl, rfl, rfl, rfl, trivial⟩
  have up : ∀ (r n : Nat), (n : Int) + r = (b - a).toNat → ∀ env, zsub env [(0, .ref 1000), (1, .int (iI m)), (2, .int (iI a)), (3, .int (iI b)), (4, .int (iI (a + n)))] → zW X (zPv fun h' => ∃ w', h' = tH w' ∧ w' = wRow w (sSh (w 0) m a b)) (tH (wRow w (sUp (w 0) m a n))) 0 0 3 env [] := by
    intro r
    induction r with
    | zero =>
      intro n hn env he
      refine zW.cut he ?_
      have fin : ∀ env, zsub env [(0, .ref 1000), (1, .int (iI m)), (2, .int (iI a)), (3, .int (iI b)), (4, .int (iI a))] → zW X (zPv fun h' => ∃ w', h' = tH w' ∧ w' = wRow w (sSh (w 0) m a b)) (tH (wRow w (sUp (w 0) m a n))) 0 0 25 env [] := fun env he => dn _ (by rw [show n = (b - a).toNat by omega]) (a - b).toNat 0 (by omega) env (by rw [show a = a - ((0 : Nat) : Int) by omega] at he; simpa using he)
      refine z_iload K dX4_shift_3 rfl ?_
      refine z_iload_n K dX4_shift_5 rfl rfl ?_
      refine j_icmp_ge (tgt := 22) K dX4_shift_6 rfl (by omega) (by omega) (fun c_6 => ?_) (fun c_6 => ?_)
      · refine z_iload_n K dX4_shift_22 rfl rfl ?_
        refine z_istore K dX4_shift_23 (by decide) rfl ?_
        exact fin _ ⟨rfl, rfl, rfl, rfl, rfl, trivial⟩
      · exact absurd c_6 (by omega)
    | succ r ih =>
      intro n hn env he
      refine zW.cut he ?_
      have fin : ∀ x : Int, x = a + n + 1 → ∀ env, zsub env [(0, .ref 1000), (1, .int (iI m)), (2, .int (iI a)), (3, .int (iI b)), (4, .int (iI x))] → zW X (zPv fun h' => ∃ w', h' = tH w' ∧ w' = wRow w (sSh (w 0) m a b)) (tH (wXc (wRow w (sUp (w 0) m a n)) m (a + n))) 0 0 3 env [] := fun x hx env he => by
        rw [wXc_r, wRow_w, wRow_0]
        exact ih (n + 1) (by omega) env (by rw [hx, show a + (n : Int) + 1 = a + ((n + 1 : Nat) : Int) by omega] at he; exact he)
      refine z_iload K dX4_shift_3 rfl ?_
      refine z_iload_n K dX4_shift_5 rfl rfl ?_
      refine j_icmp_ge (tgt := 22) K dX4_shift_6 rfl (by omega) (by omega) (fun c_6 => ?_) (fun c_6 => ?_)
      · exact absurd c_6 (by omega)
      · refine z_aload_n K dX4_shift_9 rfl rfl rfl ?_
        refine z_iload_n K dX4_shift_10 rfl rfl ?_
        refine z_iload K dX4_shift_11 rfl ?_
        refine t_callv K (tw_exchange (by omega) (by omega)) cV_X4_221_X4 rfl rfl (by decide) (Nat.le_of_ble_eq_true rfl) (Nat.le_refl _) (Nat.le_refl _) dX4_shift_13 ?_
        rintro _ rfl
        refine j_iinc K dX4_shift_16 rfl (by decide) rfl ?_
        refine z_goto (tgt := 3) K dX4_shift_19 rfl ?_
        exact fin _ (by omega) _ ⟨rfl, rfl, rfl, rfl, rfl, trivial⟩
  have go : ∀ env, zsub env [(0, .ref 1000), (1, .int (iI m)), (2, .int (iI a)), (3, .int (iI b)), (4, .int (iI a))] → zW X (zPv fun h' => ∃ w', h' = tH w' ∧ w' = wRow w (sSh (w 0) m a b)) (tH w) 0 0 3 env [] := fun env he => by
    have := up (b - a).toNat 0 (by omega) env (by rw [show a + ((0 : Nat) : Int) = a by omega]; exact he)
    rw [show wRow w (sUp (w 0) m a 0) = w from wRow_i] at this
    exact this
  refine z_iload_n K dX4_shift_0 rfl rfl ?_
  refine z_istore K dX4_shift_1 (by decide) rfl ?_
  exact go _ ⟨rfl, rfl, rfl, rfl, rfl, trivial⟩
noncomputable def tcMove (w : tW) (k p : Int) : Int := if ¬ (0 ≤ k ∧ k < w 0 1) then 1 else if ¬ (0 ≤ p ∧ p ≤ w 0 (179 + w 0 (62 + k).toNat).toNat - 1) then 2 else 0
theorem tw_move {w : tW} {k p : Int} (hk : -2147483648 ≤ k ∧ k ≤ 2147483647) (hp : -2147483648 ≤ p ∧ p ≤ 2147483647) (hI : TI w) :
    tMi yX4_move cX4_move 5 .int 7 [.int (iI k), .int (iI p)] w (pubQ w (tcMove w k p) (chg w (sSh (w 0) (w 0 (62 + k).toNat) (sPos (w 0) k) p))) := by
  refine zMet.of (by decide) (Nat.le_of_ble_eq_true rfl) fun X K => ?_
  have hA := hI.1
  have hO := hI.2.1
  have h20 := hA.2.1.1
  have tail : ∀ t : Int, t = tcMove w k p → 0 ≤ t ∧ t ≤ 3 → (t = 0 → (0 ≤ k ∧ k < w 0 1) ∧ 0 ≤ p ∧ p ≤ w 0 (179 + w 0 (62 + k).toNat).toNat - 1) → ∀ env, zsub env [(0, .ref 1000), (1, .int (iI k)), (2, .int (iI p))] → zW X (zPi fun x h' => ∃ v9 w', x = iI v9 ∧ h' = tH w' ∧ pubQ w (tcMove w k p) (chg w (sSh (w 0) (w 0 (62 + k).toNat) (sPos (w 0) k) p)) v9 w') (tH w) 0 0 48 env [.int (iI t), .ref 1000] := by
    intro t ht hr h5 env he
    refine zW.cut he ?_
    have go : t = 0 → ∀ env, zsub env [(0, .ref 1000), (1, .int (iI k)), (2, .int (iI p))] → zW X (zPi fun x h' => ∃ v9 w', x = iI v9 ∧ h' = tH w' ∧ pubQ w (tcMove w k p) (chg w (sSh (w 0) (w 0 (62 + k).toNat) (sPos (w 0) k) p)) v9 w') (tH (tset w 3 0 0)) 0 0 60 env [] := by
      rintro rfl env he
      refine zW.cut he ?_
      have h7 := h5 rfl
      have hmc := (hA.2.1.2 k h7.1.1 h7.1.2).2.1
      have hps0 := hO.pos h7.1 hmc
      have hps : (0 ≤ sPos (w 0) k ∧ sPos (w 0) k < sOn (w 0) (sMc (w 0) k)) ∧ True := ⟨⟨hps0.1.1.1, hps0.2⟩, trivial⟩
      clear hps0
      have h8 := (hO _ hmc.1 hmc.2).1
      have hW := sSh_W (s := w 0) (m := w 0 (62 + k).toNat) (a := sPos (w 0) k) (b := p) hmc hps.1 ⟨h7.2.1, by (try dsimp only [sRel, sDue, sWt, sLen, sSeq, sJb, sMc, sDu, sFa, sIx, sSu, sBn, sBf, sBl, sOn, sOr] at *); omega⟩ hA hO
      have hu := sSh_u (s := w 0) (m := w 0 (62 + k).toNat) (a := sPos (w 0) k) (b := p) hmc.1 hps.1.1 h7.2.1
      have hr1 := hps.1
      have hp4 : p ≤ 4 := by (try dsimp only [sRel, sDue, sWt, sLen, sSeq, sJb, sMc, sDu, sFa, sIx, sSu, sBn, sBf, sBl, sOn, sOr] at *); omega
      generalize hq : sPos (w 0) k = q at *
      generalize hmm : w 0 (62 + k).toNat = m at *
      (try dsimp only [sRel, sDue, sWt, sLen, sSeq, sJb, sMc, sDu, sFa, sIx, sSu, sBn, sBf, sBl, sOn, sOr] at *)
      have fin1 : ∀ (rd st s1 s2 : Nat → Int) (x c : Int), Fr [0, 3, 6, 7, 11, 12] w (tset (wRow (wFail (wt (wRow (tset w 3 0 0) s1) rd st) 3 1 (100 + x) c 0) s2) 3 0 3) := fun rd st s1 s2 x c f hf => by
        have n0 : f ≠ 0 := fun e => hf (by rw [e]; decide)
        have n3 : f ≠ 3 := fun e => hf (by rw [e]; decide)
        have e1 : ∀ (w : tW) v, tset w 3 0 v f = w f := fun w v => by funext i; exact tset_f n3
        rw [e1, wRow_f n0, wFail_f (fun e => hf (by rw [e]; decide)) (fun e => hf (by rw [e]; decide)), wt_o (fun e => hf (by rw [e]; decide)) (fun e => hf (by rw [e]; decide)), wRow_f n0, e1]
      have fin3 : ∀ (w : tW) (s2 : Nat → Int) (x c : Int), tset (wRow (wFail w 3 1 (100 + x) c 0) s2) 3 0 3 7 0 = 3 ∧ tset (wRow (wFail w 3 1 (100 + x) c 0) s2) 3 0 3 6 0 = 1 ∧ tset (wRow (wFail w 3 1 (100 + x) c 0) s2) 3 0 3 6 1 = 100 + x ∧ tset (wRow (wFail w 3 1 (100 + x) c 0) s2) 3 0 3 6 2 = c ∧ tset (wRow (wFail w 3 1 (100 + x) c 0) s2) 3 0 3 6 3 = 0 := fun w s2 x c => by
        rw [tset_f (by decide), tset_f (by decide), tset_f (by decide), tset_f (by decide), tset_f (by decide), wRow_f (by decide), wRow_f (by decide)]
        exact wFail_67
      refine z_aload_n K dX4_move_60 rfl rfl rfl ?_
      refine t_geta K fd_X4_9_0 rfl dX4_move_61 ?_
      refine j_bipush K dX4_move_64 (by decide +kernel) ?_
      refine z_iload_n K dX4_move_66 rfl rfl ?_
      refine j_iadd K dX4_move_67 ?_
      refine t_ild K 0 203 rfl rfl rfl (by omega) (by omega) rfl dX4_move_68 ?_
      rw [show tset w 3 0 0 0 (62 + k).toNat = m from hmm]
      refine z_istore_n K dX4_move_69 rfl (by decide) rfl ?_
      refine z_aload_n K dX4_move_70 rfl rfl rfl ?_
      refine z_iload_n K dX4_move_71 rfl rfl ?_
      refine t_callp K (tw_pos (w := tset w 3 0 0) hA hO h7.1) cV_X4_147_X4 rfl rfl (by decide) (Nat.le_of_ble_eq_true rfl) (Nat.le_refl _) (Nat.le_refl _) dX4_move_72 ?_
      rw [show sPos (tset w 3 0 0 0) k = q from hq]
      refine z_istore K dX4_move_75 (by decide) rfl ?_
      refine z_aload_n K dX4_move_77 rfl rfl rfl ?_
      refine z_iload_n K dX4_move_78 rfl rfl ?_
      refine z_iload K dX4_move_79 rfl ?_
      refine z_iload_n K dX4_move_81 rfl rfl ?_
      refine t_callv K (tw_shift (w := tset w 3 0 0) (by omega) (by omega) (by omega)) cV_X4_229_X4 rfl rfl (by decide) (Nat.le_of_ble_eq_true rfl) (Nat.le_refl _) (Nat.le_refl _) dX4_move_82 ?_
      rintro _ rfl
      rw [show tset w 3 0 0 0 = w 0 from rfl]
      generalize hs1 : sSh (w 0) m q p = s1 at *
      generalize hw1 : wRow (tset w 3 0 0) s1 = w1
      have f0 : w1 0 = s1 := by rw [← hw1]; exact wRow_0
      have ff : ∀ f, f ≠ 0 → f ≠ 3 → w1 f = w f := fun f f0 f3 => by rw [← hw1, wRow_f f0]; funext i; exact tset_f f3
      have f3 : w1 3 0 = 0 := by rw [← hw1, wRow_f (by decide), tset_s]
      refine z_aload_n K dX4_move_85 rfl rfl rfl ?_
      refine t_calli K (tw_failsByCycle (w := w1) (bb := 500) (by omega) (Or.inl (by rw [ff 14 (by decide) (by decide)]; exact hI.2.2.2.1)) (by rw [f0]; exact hW.1) (by rw [f0]; exact hW.2.1) (by rw [ff 13 (by decide) (by decide)]; exact hI.ho) (by rw [ff 14 (by decide) (by decide), hI.2.2.2.1]; omega) (by rw [ff 15 (by decide) (by decide)]; exact hI.2.2.2.2.1)) cV_X4_225_X4 rfl rfl (by decide) (Nat.le_of_ble_eq_true rfl) (Nat.le_refl _) (Nat.le_refl _) dX4_move_86 ?_
      rintro v1 w2 ⟨rd, st, hT, hc⟩
      have hTp : Tp s1 (w 13) (-1) 0 rd st := by have := hT.1; rw [f0, ff 13 (by decide) (by decide), ff 14 (by decide) (by decide), hI.2.2.2.1] at this; exact this.hu
      have hTq : Tq s1 (w 13) st := by have := hT.2.1; rw [f0, ff 13 (by decide) (by decide)] at this; exact this
      rw [f0] at hc
      refine j_if_eq (tgt := 107) K dX4_move_89 rfl (by rcases hc with ⟨-, q, -⟩ | ⟨-, q, -⟩ <;> omega) (fun c_89 => ?_) (fun c_89 => ?_)
      · obtain ⟨hc0, -, rfl⟩ := hc.resolve_right (fun q => by omega)
        refine z_aload_n K dX4_move_107 rfl rfl rfl ?_
        refine t_callp K (tw_greatestEnd (w := wt w1 rd st) (by show WfA (w1 0); rw [f0]; exact hW.1) (fun i hi => by have := hT.2.2 i hi; exact ⟨this.1, by show st i ≤ 4000; omega⟩)) cV_X4_185_X4 rfl rfl (by decide) (Nat.le_of_ble_eq_true rfl) (Nat.le_refl _) (Nat.le_refl _) dX4_move_108 ?_
        exact t_iret K (Nat.le_refl _) (Nat.le_refl _) (⟨fun q => ⟨rd, st, hTp, hTq, (fun f hf => by rw [wt_o (fun e => hf (by rw [e]; decide)) (fun e => hf (by rw [e]; decide))]; exact ff f (fun e => hf (by rw [e]; decide)) (fun e => hf (by rw [e]; decide))), Or.inl ⟨hc0, by show gEnd (w1 0) st (w1 0 1).toNat = _; rw [f0], f0, f3, ff 6 (by decide) (by decide), ff 7 (by decide) (by decide)⟩⟩, fun q => absurd ht.symm q⟩) dX4_move_111
      · obtain ⟨hc0, -, x, hx, rfl⟩ := hc.resolve_left (fun q => by omega)
        refine z_aload_n K dX4_move_92 rfl rfl rfl ?_
        refine z_iload_n K dX4_move_93 rfl rfl ?_
        refine z_iload_n K dX4_move_94 rfl rfl ?_
        refine z_iload K dX4_move_95 rfl ?_
        refine t_callv K (tw_shift (by omega) (by omega) (by omega)) cV_X4_229_X4 rfl rfl (by decide) (Nat.le_of_ble_eq_true rfl) (Nat.le_refl _) (Nat.le_refl _) dX4_move_97 ?_
        rintro _ rfl
        rw [show wFail (wt w1 rd st) 3 1 (100 + x) (cntU st (s1 1).toNat) 0 0 = s1 from f0, hu]
        refine z_aload_n K dX4_move_100 rfl rfl rfl ?_
        refine j_iconst K dX4_move_101 ?_
        refine t_puti K fd_X4_79_0 ⟨_, rfl, Or.inl rfl⟩ (by decide) rfl rfl dX4_move_102 ?_
        refine j_iconst K dX4_move_105 ?_
        exact t_iret K (Nat.le_refl _) (Nat.le_refl _) (⟨fun q => ⟨rd, st, hTp, hTq, by rw [← hw1]; exact fin1 rd st s1 _ x _, Or.inr ⟨hc0, fun i _ => (tset_f (by decide)).trans (by rw [wRow_0]), tset_s, x, hx, fin3 _ _ x _⟩⟩, fun q => absurd ht.symm q⟩) dX4_move_106
    refine t_puti K fd_X4_79_0 ⟨_, rfl, Or.inl rfl⟩ (by decide) rfl rfl dX4_move_48 ?_
    refine z_aload_n K dX4_move_51 rfl rfl rfl ?_
    refine t_geti K fd_X4_79_0 (by decide) rfl dX4_move_52 ?_
    refine j_if_le (tgt := 60) K dX4_move_55 rfl (by rw [tset_s]; omega) (fun c_55 => ?_) (fun c_55 => ?_)
    · rw [tset_s] at c_55
      obtain rfl : t = 0 := by omega
      exact go rfl _ ⟨rfl, rfl, rfl, trivial⟩
    · rw [tset_s] at c_55
      refine j_iconst K dX4_move_58 ?_
      exact t_iret K (Nat.le_refl _) (Nat.le_refl _) (⟨fun q => by omega, fun q => by rw [ht]⟩) dX4_move_59
  refine z_aload_n K dX4_move_0 rfl rfl rfl ?_
  refine z_aload_n K dX4_move_1 rfl rfl rfl ?_
  refine z_iload_n K dX4_move_2 rfl rfl ?_
  refine t_callp K (tw_isOperation (by omega) (by omega)) cV_X4_135_X4 rfl rfl (by decide) (Nat.le_of_ble_eq_true rfl) (Nat.le_refl _) (Nat.le_refl _) dX4_move_3 ?_
  refine j_if_ne (tgt := 13) K dX4_move_6 rfl (b01r _) (fun c_6 => ?_) (fun c_6 => ?_)
  · rw [bI_ne] at c_6
    have hmc := (hA.2.1.2 k c_6.1 (by omega)).2.1
    have h8 := (hO _ hmc.1 hmc.2).1
    (try dsimp only [sRel, sDue, sWt, sLen, sSeq, sJb, sMc, sDu, sFa, sIx, sSu, sBn, sBf, sBl, sOn, sOr] at *)
    refine z_iload_n K dX4_move_13 rfl rfl ?_
    refine j_i2l K (by omega) dX4_move_14 ?_
    refine j_lconst0 K dX4_move_15 ?_
    refine z_aload_n K dX4_move_16 rfl rfl rfl ?_
    refine t_geta K fd_X4_9_0 rfl dX4_move_17 ?_
    refine j_sipush K dX4_move_20 (by decide +kernel) ?_
    refine z_aload_n K dX4_move_23 rfl rfl rfl ?_
    refine t_geta K fd_X4_9_0 rfl dX4_move_24 ?_
    refine j_bipush K dX4_move_27 (by decide +kernel) ?_
    refine z_iload_n K dX4_move_29 rfl rfl ?_
    refine j_iadd K dX4_move_30 ?_
    refine t_ild K 0 203 rfl rfl rfl (by omega) (by omega) rfl dX4_move_31 ?_
    refine j_iadd K dX4_move_32 ?_
    refine t_ild K 0 203 rfl rfl rfl (by omega) (by omega) rfl dX4_move_33 ?_
    refine j_iconst K dX4_move_34 ?_
    refine j_isub K dX4_move_35 ?_
    refine j_i2l K (by omega) dX4_move_36 ?_
    refine z_calls K (s_in (by omega) (by omega) (by omega)) cS_X4_82 rfl rfl (by decide) (Nat.le_of_ble_eq_true rfl) (Nat.le_refl _) (Nat.le_refl _) dX4_move_37 ?_
    refine j_if_ne (tgt := 47) K dX4_move_40 rfl (b01r _) (fun c_40 => ?_) (fun c_40 => ?_)
    · rw [bI_ne] at c_40
      refine j_iconst K dX4_move_47 ?_
      exact tail _ (by unfold tcMove; split <;> first | rfl | omega | (split <;> first | rfl | omega)) (by omega) (by omega) _ ⟨rfl, rfl, rfl, trivial⟩
    · rw [bI_eq] at c_40
      refine j_iconst K dX4_move_43 ?_
      refine z_goto (tgt := 48) K dX4_move_44 rfl ?_
      exact tail _ (by unfold tcMove; split <;> first | rfl | omega | (split <;> first | rfl | omega)) (by omega) (by omega) _ ⟨rfl, rfl, rfl, trivial⟩
  · rw [bI_eq] at c_6
    refine j_iconst K dX4_move_9 ?_
    refine z_goto (tgt := 48) K dX4_move_10 rfl ?_
    exact tail _ (by unfold tcMove; split <;> first | rfl | omega | (split <;> first | rfl | omega)) (by omega) (by omega) _ ⟨rfl, rfl, rfl, trivial⟩

