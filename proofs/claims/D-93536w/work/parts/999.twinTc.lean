/-! ===== the reference: tabu, whole ===== -/
theorem tw_tabu {w : tW} {sa te : Int} (ha : -2147483648 ≤ sa ∧ sa ≤ 2147483647) (ht : -2147483648 ≤ te ∧ te ≤ 2147483647) (hI : TI w) (hac : ACy (w 0) (w 13)) : tMi yX4_tabu cX4_tabu 14 .int 8 [.int (iI sa), .int (iI te)] w (pubQ w (tcTabu sa te) (tabQ w sa te)) := by
  refine zMet.of (by decide) (Nat.le_of_ble_eq_true rfl) fun X K => ?_
  have hA := hI.1
  have hO := hI.2.1
  have h20 := hA.2.1.1
  have hac0 : ACy (w 0) (oB 0) := by
    obtain ⟨r, hr⟩ := hac
    exact ⟨r, fun k k0 k1 => by have q := hr k k0 k1; rw [sAh_cg hA hI.o4 k0 k1] at q; exact q⟩
  have hok : okR (w 0) (w 0) := ⟨hA, hO, hac0, fun _ _ => rfl⟩
  have c42 : ((0 ≤ sa ∧ sa ≤ 20) ∧ 0 ≤ te ∧ te ≤ 9) → ∀ env, zsub env [(0, .ref 1000), (1, .int (iI sa)), (2, .int (iI te))] → zW X (zPi fun x h' => ∃ v9 w', x = iI v9 ∧ h' = tH w' ∧ pubQ w (tcTabu sa te) (tabQ w sa te) v9 w') (tH (tset w 3 0 0)) 0 0 42 env [] := fun h5 env he => by
    refine zW.cut he ?_
    have t0 : tcTabu sa te = 0 := if_pos h5
    have hq : ∀ v W, tabQ w sa te v W → (zPi fun x h' => ∃ v9 w', x = iI v9 ∧ h' = tH w' ∧ pubQ w (tcTabu sa te) (tabQ w sa te) v9 w') (.inl (some (.int (iI v)))) (tH W) := fun v W q => ⟨_, rfl, v, W, rfl, rfl, fun _ => q, fun z => absurd t0 z⟩
    generalize (zPi fun x h' => ∃ v9 w', x = iI v9 ∧ h' = tH w' ∧ pubQ w (tcTabu sa te) (tabQ w sa te) v9 w') = Q at *
    have c64 : ∀ b : Nat → Int, (∀ q, q < 400 → b q = 0) → ∀ env, zsub env [(0, .ref 1000), (1, .int (iI sa)), (2, .int (iI te))] → zW X Q (tH (wF (tset w 3 0 0) 24 b)) 0 0 64 env [] := fun b hb env he => by
      refine zW.cut he ?_
      generalize hWd : wF (wF (tset w 3 0 0) 24 b) 25 (va_cpy (wF (tset w 3 0 0) 24 b 0) (wF (tset w 3 0 0) 24 b 25) 183 0 20) = Wd
      have Wdf : ∀ f, f ≠ 25 → f ≠ 24 → f ≠ 3 → Wd f = w f := fun f f0 f1 f2 => by rw [← hWd, wF_n f0, wF_n f1, tset_g f2]
      have Wd0 : Wd 0 = w 0 := Wdf 0 (by decide) (by decide) (by decide)
      have Wd3 : Wd 3 0 = 0 := by rw [← hWd, wF_n (by decide), wF_n (by decide)]; exact tset_s
      have Wd24 : Wd 24 = b := by rw [← hWd, wF_n (by decide), wF_s]
      have Wd25 : ∀ i : Nat, i < 20 → Wd 25 i = w 0 (183 + i) := fun i hi => by
        rw [← hWd, wF_s, wF_n (by decide), tset_g (by decide)]
        unfold va_cpy
        rw [if_pos (by omega)]
        exact congrArg _ (by omega)
      have hmn := tw_makespanNow (w := Wd) (bb := 500) (by omega) (Or.inl (by rw [Wdf 14 (by decide) (by decide) (by decide)]; exact hI.2.2.2.1)) (by rw [Wd0]; exact hA) (by rw [Wd0]; exact hO) (by rw [Wdf 13 (by decide) (by decide) (by decide)]; exact fun m hm => by rw [hI.2.2.1 m hm]; omega) (by rw [Wdf 14 (by decide) (by decide) (by decide), hI.2.2.2.1]; omega) (by rw [Wdf 15 (by decide) (by decide) (by decide)]; exact hI.2.2.2.2.1)
      rw [Wd0] at hmn
      have c85 : ∀ rd st, fT Wd 500 rd st → ∀ env, zsub env [(0, .ref 1000), (1, .int (iI sa)), (2, .int (iI te))] → zW X Q (tH (wt Wd rd st)) 0 0 85 env [.int (iI (mkS (w 0) st))] := fun rd st hT env he => by
        refine zW.cut he ?_
        have t1 := hT.1
        have t2 := hT.2.1
        have t3 := hT.2.2
        rw [Wd0, Wdf 13 (by decide) (by decide) (by decide), Wdf 14 (by decide) (by decide) (by decide), hI.2.2.2.1] at t1
        rw [Wd0, Wdf 13 (by decide) (by decide) (by decide)] at t2
        rw [Wd0] at t3
        have hmk : MkR (w 0) (oB 0) (mkS (w 0) st) := ⟨rd, st, (Tp.hu0 t1).cg hA hI.o4, t2.cg hA hI.o4, rfl⟩
        have hnn := hmk.nn hA hO hac0
        have hle : 0 ≤ mkS (w 0) st ∧ mkS (w 0) st ≤ 5000 := by
          refine ⟨hnn, ?_⟩
          unfold mkS
          split
          · omega
          · have := gEnd_r (s := w 0) (st := st) (n := (w 0 1).toNat) hA (by omega) (fun i hi => by have := t3 i hi; omega)
            omega
        generalize mkS (w 0) st = le at *
        have tbi : tbI w (tset (wt Wd rd st) 10 0 0) (w 0) (fun _ _ => 0) (w 0) 0 := ⟨by rw [tset_g (by decide), wt_o (by decide) (by decide)]; exact Wd0, fun f hf => by
            rw [tset_g (fun e => hf (by rw [e]; decide)), wt_o (fun e => hf (by rw [e]; decide)) (fun e => hf (by rw [e]; decide))]
            exact Wdf f (fun e => hf (by rw [e]; decide)) (fun e => hf (by rw [e]; decide)) (fun e => hf (by rw [e]; decide)), by rw [tset_g (by decide), wt_o (by decide) (by decide)]; exact Wd3, tset_s, fun a c a0 a1 c0 c1 => by
            rw [tset_g (by decide), wt_o (by decide) (by decide), Wd24]
            exact ⟨hb _ (by omega), by dsimp only; omega⟩, by rw [tset_g (by decide), wt_o (by decide) (by decide)]; exact Wd25, hok, hok⟩
        have go := tw_tbLoop K hI hq hmk h5.1 h5.2 sa.toNat (tset (wt Wd rd st) 10 0 0) (w 0) (w 0) (fun _ _ => 0) 0 le (by omega) (by omega) tbi hle (fun fuel bs' k' q => ⟨fuel, q⟩)
        refine z_istore_n K dX4_tabu_85 rfl (by decide) rfl ?_
        refine z_aload_n K dX4_tabu_86 rfl rfl rfl ?_
        refine j_iconst K dX4_tabu_87 ?_
        refine t_puti K fd_X4_270_0 ⟨_, rfl, Or.inl rfl⟩ (by decide) rfl rfl dX4_tabu_88 ?_
        refine j_iconst K dX4_tabu_91 ?_
        refine z_istore K dX4_tabu_92 (by decide) rfl ?_
        exact go _ ⟨rfl, rfl, rfl, rfl, rfl, trivial⟩
      refine z_aload_n K dX4_tabu_64 rfl rfl rfl ?_
      refine t_geta K fd_X4_9_0 rfl dX4_tabu_65 ?_
      refine j_sipush K dX4_tabu_68 (by decide +kernel) ?_
      refine z_aload_n K dX4_tabu_71 rfl rfl rfl ?_
      refine t_geta K fd_X4_61_0 rfl dX4_tabu_72 ?_
      refine j_iconst K dX4_tabu_75 ?_
      refine j_bipush K dX4_tabu_76 (by decide +kernel) ?_
      refine t_copy K 0 25 (by decide) (by decide) rfl rfl q2202 (by omega) (by omega) (by omega) (by decide) (by decide) (by omega) (by decide) dX4_tabu_78 ?_
      rw [show (0 : Int).toNat = 0 from rfl, show (183 : Int).toNat = 183 from rfl, show (20 : Int).toNat = 20 from rfl, hWd]
      refine z_aload_n K dX4_tabu_81 rfl rfl rfl ?_
      refine t_calli K (hmn) cV_X4_188_X4 rfl rfl (by decide) (Nat.le_of_ble_eq_true rfl) (Nat.le_refl _) (Nat.le_refl _) dX4_tabu_82 ?_
      rintro _ _ ⟨rd, st, rfl, hT, rfl⟩
      exact c85 rd st hT _ ⟨rfl, rfl, rfl, trivial⟩
    have clr : ∀ (r i : Nat), i + r = 400 → ∀ b : Nat → Int, (∀ q, q < i → b q = 0) → ∀ env, zsub env [(0, .ref 1000), (1, .int (iI sa)), (2, .int (iI te)), (3, .int (iI i))] → zW X Q (tH (wF (tset w 3 0 0) 24 b)) 0 0 44 env [] := by
      intro r
      induction r with
      | zero =>
        intro i hi b hb env he
        refine zW.cut he ?_
        have nx := c64 b (fun q hq => hb q (by omega))
        clear c64
        refine z_iload_n K dX4_tabu_44 rfl rfl ?_
        refine j_sipush K dX4_tabu_45 (by decide +kernel) ?_
        refine j_icmp_ge (tgt := 64) K dX4_tabu_48 rfl (by omega) (by omega) (fun c_48 => ?_) (fun c_48 => ?_)
        · exact nx _ ⟨rfl, rfl, rfl, trivial⟩
        · exact absurd c_48 (by omega)
      | succ r ih =>
        intro i hi b hb env he
        refine zW.cut he ?_
        have nx := ih (i + 1) (by omega) (sup b i 0) (fun q hq => by
          by_cases e : q = i
          · rw [e, sup_s]
          · rw [sup_n e]; exact hb q (by omega))
        clear ih c64
        refine z_iload_n K dX4_tabu_44 rfl rfl ?_
        refine j_sipush K dX4_tabu_45 (by decide +kernel) ?_
        refine j_icmp_ge (tgt := 64) K dX4_tabu_48 rfl (by omega) (by omega) (fun c_48 => ?_) (fun c_48 => ?_)
        · exact absurd c_48 (by omega)
        · refine z_aload_n K dX4_tabu_51 rfl rfl rfl ?_
          refine t_geta K fd_X4_58_0 rfl dX4_tabu_52 ?_
          refine z_iload_n K dX4_tabu_55 rfl rfl ?_
          refine j_iconst K dX4_tabu_56 ?_
          refine t_ist K 24 400 rfl rfl rfl (by omega) (by omega) rfl dX4_tabu_57 ?_
          rw [wF_t, Int.toNat_natCast]
          refine j_iinc K dX4_tabu_58 rfl (by decide) rfl ?_
          refine z_goto (tgt := 44) K dX4_tabu_61 rfl ?_
          exact nx _ ⟨rfl, rfl, rfl, rfl, trivial⟩
    have go := clr 400 0 (by omega) (tset w 3 0 0 24) (fun q hq => by omega)
    rw [wF_i] at go
    have go : ∀ env, zsub env [(0, .ref 1000), (1, .int (iI sa)), (2, .int (iI te)), (3, .int (iI 0))] → zW X Q (tH (tset w 3 0 0)) 0 0 44 env [] := go
    clear clr c64
    refine j_iconst K dX4_tabu_42 ?_
    refine z_istore_n K dX4_tabu_43 rfl (by decide) rfl ?_
    exact go _ ⟨rfl, rfl, rfl, rfl, trivial⟩
  have tail : ∀ t : Int, t = tcTabu sa te → 0 ≤ t ∧ t ≤ 1 → (t = 0 → (0 ≤ sa ∧ sa ≤ 20) ∧ 0 ≤ te ∧ te ≤ 9) → ∀ env, zsub env [(0, .ref 1000), (1, .int (iI sa)), (2, .int (iI te))] → zW X (zPi fun x h' => ∃ v9 w', x = iI v9 ∧ h' = tH w' ∧ pubQ w (tcTabu sa te) (tabQ w sa te) v9 w') (tH w) 0 0 30 env [.int (iI t), .ref 1000] := by
    intro t ht hr h5 env he
    refine zW.cut he ?_
    have go : t = 0 → _ := fun q => c42 (h5 q)
    clear c42
    refine t_puti K fd_X4_79_0 ⟨_, rfl, Or.inl rfl⟩ (by decide) rfl rfl dX4_tabu_30 ?_
    refine z_aload_n K dX4_tabu_33 rfl rfl rfl ?_
    refine t_geti K fd_X4_79_0 (by decide) rfl dX4_tabu_34 ?_
    refine j_if_le (tgt := 42) K dX4_tabu_37 rfl (by rw [tset_s]; omega) (fun c_37 => ?_) (fun c_37 => ?_)
    · rw [tset_s] at c_37
      obtain rfl : t = 0 := by omega
      exact go rfl _ ⟨rfl, rfl, rfl, trivial⟩
    · rw [tset_s] at c_37
      refine j_iconst K dX4_tabu_40 ?_
      exact t_iret K (Nat.le_refl _) (Nat.le_refl _) (⟨fun q => by omega, fun q => by rw [ht]⟩) dX4_tabu_41
  clear c42
  refine z_aload_n K dX4_tabu_0 rfl rfl rfl ?_
  refine z_iload_n K dX4_tabu_1 rfl rfl ?_
  refine j_i2l K (by omega) dX4_tabu_2 ?_
  refine j_lconst0 K dX4_tabu_3 ?_
  refine j_ldc2 K 20 q2201 (by decide +kernel) dX4_tabu_4 ?_
  refine z_calls K (s_in (by omega) (by omega) (by omega)) cS_X4_82 rfl rfl (by decide) (Nat.le_of_ble_eq_true rfl) (Nat.le_refl _) (Nat.le_refl _) dX4_tabu_7 ?_
  refine j_if_eq (tgt := 29) K dX4_tabu_10 rfl (b01r _) (fun c_10 => ?_) (fun c_10 => ?_)
  · rw [bI_eq] at c_10
    refine j_iconst K dX4_tabu_29 ?_
    exact tail _ (by unfold tcTabu; split <;> omega) (by omega) (by omega) _ ⟨rfl, rfl, rfl, trivial⟩
  · rw [bI_ne] at c_10
    refine z_iload_n K dX4_tabu_13 rfl rfl ?_
    refine j_i2l K (by omega) dX4_tabu_14 ?_
    refine j_lconst0 K dX4_tabu_15 ?_
    refine j_ldc2 K 9 q1925 (by decide +kernel) dX4_tabu_16 ?_
    refine z_calls K (s_in (by omega) (by omega) (by omega)) cS_X4_82 rfl rfl (by decide) (Nat.le_of_ble_eq_true rfl) (Nat.le_refl _) (Nat.le_refl _) dX4_tabu_19 ?_
    refine j_if_eq (tgt := 29) K dX4_tabu_22 rfl (b01r _) (fun c_22 => ?_) (fun c_22 => ?_)
    · rw [bI_eq] at c_22
      refine j_iconst K dX4_tabu_29 ?_
      exact tail _ (by unfold tcTabu; split <;> omega) (by omega) (by omega) _ ⟨rfl, rfl, rfl, trivial⟩
    · rw [bI_ne] at c_22
      refine j_iconst K dX4_tabu_25 ?_
      refine z_goto (tgt := 30) K dX4_tabu_26 rfl ?_
      exact tail _ (by unfold tcTabu; split <;> omega) (by omega) (by omega) _ ⟨rfl, rfl, rfl, trivial⟩

