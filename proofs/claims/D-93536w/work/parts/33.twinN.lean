/-! ===== the reference: dispatch ===== -/
def sClr (s : Nat → Int) (n : Nat) : Nat → Int := fun i => if 179 ≤ i ∧ i < 179 + n then 0 else s i
def gClr (g : Nat → Int) (n : Nat) : Nat → Int := fun i => if i < n then 0 else g i
theorem sClr_s {s : Nat → Int} {n : Nat} : sup (sClr s n) (179 + n) 0 = sClr s (n + 1) := by
  funext i
  unfold sup sClr
  split <;> split <;> (try split) <;> first | rfl | omega
theorem gClr_s {s : Nat → Int} {n : Nat} : sup (gClr s n) n 0 = gClr s (n + 1) := by
  funext i
  unfold sup gClr
  split <;> split <;> (try split) <;> first | rfl | omega
theorem sClr_0 {s : Nat → Int} : sClr s 0 = s := by
  funext i
  unfold sClr
  rw [if_neg (by omega)]
theorem gClr_0 {s : Nat → Int} : gClr s 0 = s := by
  funext i
  unfold gClr
  rw [if_neg (by omega)]
theorem BI.clr {s g fx : Nat → Int} (hA : WfA s) : BI (sClr s 4) (gClr g 5) fx := by
  have lo : ∀ i : Nat, i < 179 → sClr s 4 i = s i := fun i hi => if_neg (by omega)
  have h05 := hA.1.1
  have h20 := hA.2.1.1
  have hA' : WfA (sClr s 4) := hA.congr lo
  have g0 : ∀ j : Int, 0 ≤ j → j < s 0 → gClr g 5 j.toNat = 0 := fun j j0 j1 => if_pos (by omega)
  have no : ∀ k, ¬ inO (sClr s 4) (gClr g 5) k := fun k q => by
    obtain ⟨q1, q2⟩ := q
    obtain ⟨a1, -, -, -, a5, -⟩ := hA'.2.1.2 k q1.1 q1.2
    rw [g0 _ a1.1 (by rw [← lo 0 (by omega)]; exact a1.2)] at q2
    omega
  have on : ∀ m : Int, 0 ≤ m → m ≤ 3 → sOn (sClr s 4) m = 0 := fun m m0 m1 => if_pos (by omega)
  refine ⟨hA', fun j j0 j1 => ?_, fun m m0 m1 => ?_, fun k q => absurd q (no k), fun k q => absurd q (no k), fun m p m0 m1 p0 p1 => ?_⟩
  · have hl := (hA'.1.2 j j0 j1).2.2.2
    rw [g0 j j0 (by rw [← lo 0 (by omega)]; exact j1)]
    omega
  · rw [on m m0 m1]
    exact ⟨by omega, fun p p0 p1 => by omega, fun p q p0 p1 => by omega, fun k q => absurd q (no k)⟩
  · rw [on m m0 m1] at p1
    omega
noncomputable def tcDisp (u : Int) : Int := if 0 ≤ u ∧ u ≤ 3 then 0 else 1
/-- what building on from s, g, fx ends with -/
def bQ (w : tW) (u t : Int) (s g fx : Nat → Int) (v : Int) (w' : tW) : Prop := ∃ rd st, Tp (bld u t 21 s g fx).1 (w 13) (-1) 0 rd st ∧ Tq (bld u t 21 s g fx).1 (w 13) st ∧ Fr [0, 3, 11, 12, 18, 19] w w' ∧ w' 0 = (bld u t 21 s g fx).1 ∧ w' 3 0 = 0 ∧ v = mkS (bld u t 21 s g fx).1 st
theorem tw_dispatch {w : tW} {u : Int} (hu : -2147483648 ≤ u ∧ u ≤ 2147483647) (hI : TI w) : tMi yX4_dispatch cX4_dispatch 3 .int 7 [.int (iI u)] w (pubQ w (tcDisp u) (bQ w u 0 (sClr (w 0) 4) (gClr (w 18) 5) (w 19))) := by
  refine zMet.of (by decide) (Nat.le_of_ble_eq_true rfl) fun X K => ?_
  have hA := hI.1
  have tail : ∀ t : Int, t = tcDisp u → 0 ≤ t ∧ t ≤ 1 → (t = 0 → 0 ≤ u ∧ u ≤ 3) → ∀ env, zsub env [(0, .ref 1000), (1, .int (iI u))] → zW X (zPi fun x h' => ∃ v9 w', x = iI v9 ∧ h' = tH w' ∧ pubQ w (tcDisp u) (bQ w u 0 (sClr (w 0) 4) (gClr (w 18) 5) (w 19)) v9 w') (tH w) 0 0 18 env [.int (iI t), .ref 1000] := by
    intro t ht hr h5 env he
    refine zW.cut he ?_
    have k74 : t = 0 → ∀ env, zsub env [(0, .ref 1000), (1, .int (iI u))] → zW X (zPi fun x h' => ∃ v9 w', x = iI v9 ∧ h' = tH w' ∧ pubQ w (tcDisp u) (bQ w u 0 (sClr (w 0) 4) (gClr (w 18) 5) (w 19)) v9 w') (tH (w3 (tset w 3 0 0) (sClr (w 0) 4) (gClr (w 18) 5) (w 19))) 0 0 74 env [] := by
      rintro rfl env he
      refine zW.cut he ?_
      have h7 := h5 rfl
      have hBI := BI.clr (s := w 0) (g := w 18) (fx := w 19) hA
      obtain ⟨b1, b2, b3⟩ := bld_ok (u := u) (t := 0) (by omega) 20 _ _ _ hBI (by have := hBI.rr; omega)
      have b4 := b1.whole (fun j j0 j1 => by
        rw [b3 0 (by omega)] at j1
        have h05 := hBI.A.1.1
        rw [b2 j j0 j1]
        exact (b3 _ (by omega)).symm)
      have b5 := b1.A
      have hB : bld u 0 21 (sClr (w 0) 4) (gClr (w 18) 5) (w 19) = bld u 0 (20 + 1) (sClr (w 0) 4) (gClr (w 18) 5) (w 19) := rfl
      rw [← hB] at b4 b5
      have ff : ∀ a b c f, f ≠ 0 → f ≠ 3 → f ≠ 18 → f ≠ 19 → w3 (tset w 3 0 0) a b c f = w f := fun a b c f f0 f3 f18 f19 => by rw [w3_f f0 f18 f19]; funext i; exact tset_f f3
      refine z_aload_n K dX4_dispatch_74 rfl rfl rfl ?_
      refine z_iload_n K dX4_dispatch_75 rfl rfl ?_
      refine j_iconst K dX4_dispatch_76 ?_
      refine t_callv K (tw_build (w := w3 (tset w 3 0 0) (sClr (w 0) 4) (gClr (w 18) 5) (w 19)) h7 (by omega) hBI) cV_X4_241_X4 rfl rfl (by decide) (Nat.le_of_ble_eq_true rfl) (Nat.le_refl _) (Nat.le_refl _) dX4_dispatch_77 ?_
      rintro _ rfl
      rw [show wBld (w3 (tset w 3 0 0) (sClr (w 0) 4) (gClr (w 18) 5) (w 19)) u 0 (w3 (tset w 3 0 0) (sClr (w 0) 4) (gClr (w 18) 5) (w 19) 0) (w3 (tset w 3 0 0) (sClr (w 0) 4) (gClr (w 18) 5) (w 19) 18) (w3 (tset w 3 0 0) (sClr (w 0) 4) (gClr (w 18) 5) (w 19) 19) 21 = w3 (w3 (tset w 3 0 0) (sClr (w 0) 4) (gClr (w 18) 5) (w 19)) (bld u 0 21 (sClr (w 0) 4) (gClr (w 18) 5) (w 19)).1 (bld u 0 21 (sClr (w 0) 4) (gClr (w 18) 5) (w 19)).2.1 (bld u 0 21 (sClr (w 0) 4) (gClr (w 18) 5) (w 19)).2.2 from rfl]
      generalize hw1 : w3 (w3 (tset w 3 0 0) (sClr (w 0) 4) (gClr (w 18) 5) (w 19)) (bld u 0 21 (sClr (w 0) 4) (gClr (w 18) 5) (w 19)).1 (bld u 0 21 (sClr (w 0) 4) (gClr (w 18) 5) (w 19)).2.1 (bld u 0 21 (sClr (w 0) 4) (gClr (w 18) 5) (w 19)).2.2 = w1
      have f0 : w1 0 = (bld u 0 21 (sClr (w 0) 4) (gClr (w 18) 5) (w 19)).1 := by rw [← hw1]; rfl
      have f3 : w1 3 0 = 0 := by rw [← hw1, w3_f (by decide) (by decide) (by decide), w3_f (by decide) (by decide) (by decide), tset_s]
      have fo : ∀ f, f ≠ 0 → f ≠ 3 → f ≠ 18 → f ≠ 19 → w1 f = w f := fun f f0 f3 f18 f19 => by rw [← hw1, w3_f f0 f18 f19]; exact ff _ _ _ f f0 f3 f18 f19
      refine z_aload_n K dX4_dispatch_80 rfl rfl rfl ?_
      refine t_calli K (tw_makespanNow (w := w1) (bb := 500) (by omega) (Or.inl (by rw [fo 14 (by decide) (by decide) (by decide) (by decide)]; exact hI.2.2.2.1)) (by rw [f0]; exact b5) (by rw [f0]; exact b4) (by rw [fo 13 (by decide) (by decide) (by decide) (by decide)]; exact hI.ho) (by rw [fo 14 (by decide) (by decide) (by decide) (by decide), hI.2.2.2.1]; omega) (by rw [fo 15 (by decide) (by decide) (by decide) (by decide)]; exact hI.2.2.2.2.1)) cV_X4_188_X4 rfl rfl (by decide) (Nat.le_of_ble_eq_true rfl) (Nat.le_refl _) (Nat.le_refl _) dX4_dispatch_81 ?_
      rintro v1 w2 ⟨rd, st, rfl, hT, hv⟩
      have hTp : Tp (bld u 0 21 (sClr (w 0) 4) (gClr (w 18) 5) (w 19)).1 (w 13) (-1) 0 rd st := by have := hT.1; rw [f0, fo 13 (by decide) (by decide) (by decide) (by decide), fo 14 (by decide) (by decide) (by decide) (by decide), hI.2.2.2.1] at this; exact this.hu
      have hTq : Tq (bld u 0 21 (sClr (w 0) 4) (gClr (w 18) 5) (w 19)).1 (w 13) st := by have := hT.2.1; rw [f0, fo 13 (by decide) (by decide) (by decide) (by decide)] at this; exact this
      exact t_iret K (Nat.le_refl _) (Nat.le_refl _) (⟨fun q => ⟨rd, st, hTp, hTq, fun f hf => (by rw [wt_o (fun e => hf (by rw [e]; decide)) (fun e => hf (by rw [e]; decide))]; exact fo f (fun e => hf (by rw [e]; decide)) (fun e => hf (by rw [e]; decide)) (fun e => hf (by rw [e]; decide)) (fun e => hf (by rw [e]; decide))), f0, f3, by rw [hv, f0]⟩, fun q => absurd ht.symm q⟩) dX4_dispatch_84
    have l2 : t = 0 → ∀ r n : Nat, n + r = 5 → ∀ env, zsub env [(0, .ref 1000), (1, .int (iI u)), (2, .int (iI n))] → zW X (zPi fun x h' => ∃ v9 w', x = iI v9 ∧ h' = tH w' ∧ pubQ w (tcDisp u) (bQ w u 0 (sClr (w 0) 4) (gClr (w 18) 5) (w 19)) v9 w') (tH (w3 (tset w 3 0 0) (sClr (w 0) 4) (gClr (w 18) n) (w 19))) 0 0 56 env [] := by
      intro t0 r
      induction r with
      | zero =>
        intro n hn env he
        obtain rfl : n = 5 := by omega
        refine zW.cut he ?_
        refine z_iload_n K dX4_dispatch_56 rfl rfl ?_
        refine j_iconst K dX4_dispatch_57 ?_
        refine j_icmp_ge (tgt := 74) K dX4_dispatch_58 rfl (by omega) (by omega) (fun c_58 => ?_) (fun c_58 => ?_)
        · exact k74 t0 _ ⟨rfl, rfl, trivial⟩
        · exact absurd c_58 (by omega)
      | succ r ih =>
        intro n hn env he
        refine zW.cut he ?_
        refine z_iload_n K dX4_dispatch_56 rfl rfl ?_
        refine j_iconst K dX4_dispatch_57 ?_
        refine j_icmp_ge (tgt := 74) K dX4_dispatch_58 rfl (by omega) (by omega) (fun c_58 => ?_) (fun c_58 => ?_)
        · exact absurd c_58 (by omega)
        · refine z_aload_n K dX4_dispatch_61 rfl rfl rfl ?_
          refine t_geta K fd_X4_43_0 rfl dX4_dispatch_62 ?_
          refine z_iload_n K dX4_dispatch_65 rfl rfl ?_
          refine j_iconst K dX4_dispatch_66 ?_
          refine t_ist K 18 5 rfl rfl rfl (by omega) (by omega) rfl dX4_dispatch_67 ?_
          rw [w3_g, show (n : Int).toNat = n from rfl, gClr_s]
          refine j_iinc K dX4_dispatch_68 rfl (by decide) rfl ?_
          refine z_goto (tgt := 56) K dX4_dispatch_71 rfl ?_
          exact ih (n + 1) (by omega) _ ⟨rfl, rfl, rfl, trivial⟩
    have l1 : t = 0 → ∀ r n : Nat, n + r = 4 → ∀ env, zsub env [(0, .ref 1000), (1, .int (iI u)), (2, .int (iI n))] → zW X (zPi fun x h' => ∃ v9 w', x = iI v9 ∧ h' = tH w' ∧ pubQ w (tcDisp u) (bQ w u 0 (sClr (w 0) 4) (gClr (w 18) 5) (w 19)) v9 w') (tH (w3 (tset w 3 0 0) (sClr (w 0) n) (gClr (w 18) 0) (w 19))) 0 0 32 env [] := by
      intro t0 r
      induction r with
      | zero =>
        intro n hn env he
        obtain rfl : n = 4 := by omega
        refine zW.cut he ?_
        refine z_iload_n K dX4_dispatch_32 rfl rfl ?_
        refine j_iconst K dX4_dispatch_33 ?_
        refine j_icmp_ge (tgt := 54) K dX4_dispatch_34 rfl (by omega) (by omega) (fun c_34 => ?_) (fun c_34 => ?_)
        · refine j_iconst K dX4_dispatch_54 ?_
          refine z_istore_n K dX4_dispatch_55 rfl (by decide) rfl ?_
          exact l2 t0 5 0 (by omega) _ ⟨rfl, rfl, rfl, trivial⟩
        · exact absurd c_34 (by omega)
      | succ r ih =>
        intro n hn env he
        refine zW.cut he ?_
        refine z_iload_n K dX4_dispatch_32 rfl rfl ?_
        refine j_iconst K dX4_dispatch_33 ?_
        refine j_icmp_ge (tgt := 54) K dX4_dispatch_34 rfl (by omega) (by omega) (fun c_34 => ?_) (fun c_34 => ?_)
        · exact absurd c_34 (by omega)
        · refine z_aload_n K dX4_dispatch_37 rfl rfl rfl ?_
          refine t_geta K fd_X4_9_0 rfl dX4_dispatch_38 ?_
          refine j_sipush K dX4_dispatch_41 (by decide +kernel) ?_
          refine z_iload_n K dX4_dispatch_44 rfl rfl ?_
          refine j_iadd K dX4_dispatch_45 ?_
          refine j_iconst K dX4_dispatch_46 ?_
          refine t_ist K 0 203 rfl rfl rfl (by omega) (by omega) rfl dX4_dispatch_47 ?_
          rw [w3_s, show (179 + (n : Int)).toNat = 179 + n by omega, sClr_s]
          refine j_iinc K dX4_dispatch_48 rfl (by decide) rfl ?_
          refine z_goto (tgt := 32) K dX4_dispatch_51 rfl ?_
          exact ih (n + 1) (by omega) _ ⟨rfl, rfl, rfl, trivial⟩
    have e3 : tset w 3 0 0 = w3 (tset w 3 0 0) (sClr (w 0) 0) (gClr (w 18) 0) (w 19) := by
      rw [sClr_0, gClr_0]
      exact w3_i.symm
    refine t_puti K fd_X4_79_0 ⟨_, rfl, Or.inl rfl⟩ (by decide) rfl rfl dX4_dispatch_18 ?_
    refine z_aload_n K dX4_dispatch_21 rfl rfl rfl ?_
    refine t_geti K fd_X4_79_0 (by decide) rfl dX4_dispatch_22 ?_
    refine j_if_le (tgt := 30) K dX4_dispatch_25 rfl (by rw [tset_s]; omega) (fun c_25 => ?_) (fun c_25 => ?_)
    · rw [tset_s] at c_25
      obtain rfl : t = 0 := by omega
      refine j_iconst K dX4_dispatch_30 ?_
      refine z_istore_n K dX4_dispatch_31 rfl (by decide) rfl ?_
      rw [e3]
      exact l1 rfl 4 0 (by omega) _ ⟨rfl, rfl, rfl, trivial⟩
    · rw [tset_s] at c_25
      refine j_iconst K dX4_dispatch_28 ?_
      exact t_iret K (Nat.le_refl _) (Nat.le_refl _) (⟨fun q => by omega, fun q => by rw [ht]⟩) dX4_dispatch_29
  refine z_aload_n K dX4_dispatch_0 rfl rfl rfl ?_
  refine z_iload_n K dX4_dispatch_1 rfl rfl ?_
  refine j_i2l K (by omega) dX4_dispatch_2 ?_
  refine j_lconst0 K dX4_dispatch_3 ?_
  refine j_ldc2 K 3 q1941 (by decide +kernel) dX4_dispatch_4 ?_
  refine z_calls K (s_in (by omega) (by omega) (by omega)) cS_X4_82 rfl rfl (by decide) (Nat.le_of_ble_eq_true rfl) (Nat.le_refl _) (Nat.le_refl _) dX4_dispatch_7 ?_
  refine j_if_eq (tgt := 17) K dX4_dispatch_10 rfl (b01r _) (fun c_10 => ?_) (fun c_10 => ?_)
  · rw [bI_eq] at c_10
    refine j_iconst K dX4_dispatch_17 ?_
    exact tail _ (by unfold tcDisp; split <;> omega) (by omega) (by omega) _ ⟨rfl, rfl, trivial⟩
  · rw [bI_ne] at c_10
    refine j_iconst K dX4_dispatch_13 ?_
    refine z_goto (tgt := 18) K dX4_dispatch_14 rfl ?_
    exact tail _ (by unfold tcDisp; split <;> omega) (by omega) (by omega) _ ⟨rfl, rfl, trivial⟩

