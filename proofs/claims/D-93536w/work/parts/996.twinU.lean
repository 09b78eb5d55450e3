/-! ===== the reference: utilization ===== -/
def durS (s : Nat → Int) (m : Int) : Nat → Int
  | 0 => 0
  | n + 1 => durS s m n + sDu s (sOr s m n)
theorem durS_r {s : Nat → Int} (hA : WfA s) (hO : WfO s) {m : Int} (hm : 0 ≤ m ∧ m ≤ 3) : ∀ n : Nat, (n : Int) ≤ sOn s m → 0 ≤ durS s m n ∧ durS s m n ≤ 30 * n
  | 0, _ => ⟨Int.le_refl _, Int.le_refl _⟩
  | n + 1, h => by
    have a := durS_r hA hO hm n (by omega)
    obtain ⟨q1, q2⟩ := (hO m hm.1 hm.2).2.1 n (by omega) (by omega)
    have b := (hA.2.1.2 _ q1.1 q1.2).2.2.1
    unfold durS
    omega
def dtOk : FP.Core.Datum → Prop
  | .nan => False
  | .inf _ => True
  | .fin _ c q => c < 2 ^ 53 ∧ -1074 ≤ q ∧ q ≤ 971
theorem enc_ok : ∀ {d : FP.Core.Datum}, dtOk d → FP.Core.encode FP.Core.b64 d % 2 ^ 63 ≤ 9218868437227405312
  | .nan, h => h.elim
  | .inf s, _ => by cases s <;> decide +kernel
  | .fin s c q, ⟨h1, h2, h3⟩ => by
    have ht : FP.Core.b64.tails = 4503599627370496 := rfl
    have he : FP.Core.b64.exps = 2048 := rfl
    have hq : FP.Core.b64.qmin = -1074 := by decide +kernel
    unfold FP.Core.encode FP.Core.assemble
    dsimp only
    rw [ht, he, hq]
    have hs : s.toNat ≤ 1 := by cases s <;> decide
    have h53 : (2 : Nat) ^ 53 = 9007199254740992 := rfl
    have h63 : (2 : Nat) ^ 63 = 9223372036854775808 := rfl
    rw [h53] at h1
    rw [h63]
    split
    · omega
    · have : (q - -1074).toNat + 1 ≤ 2046 := by omega
      omega
theorem bnd_ok {s : Bool} {c : Nat} {q : Int} (h1 : c < 2 ^ 53) (h2 : -1074 ≤ q) : dtOk (FP.Core.bound FP.Core.b64 s c q) := by
  have hq : FP.Core.b64.qmax = 971 := by decide +kernel
  unfold FP.Core.bound
  rw [hq]
  split
  · exact ⟨h1, h2, by assumption⟩
  · trivial
theorem rr_ok {s : Bool} {n d : Nat} {e : Int} : dtOk (FP.Core.roundRatio FP.Core.b64 s n d e) := by
  have hq : FP.Core.b64.qmin = -1074 := by decide +kernel
  unfold FP.Core.roundRatio
  split
  · exact ⟨by decide, by rw [hq]; omega, by rw [hq]; omega⟩
  · unfold FP.Core.roundAt FP.Core.settle
    have h2 : -1074 ≤ FP.Core.quantum FP.Core.b64 n d e := by unfold FP.Core.quantum; rw [hq]; omega
    split
    · exact bnd_ok (by assumption) h2
    · exact bnd_ok (by decide +kernel) (by omega)
def isFin : FP.Core.Datum → Bool
  | .fin _ _ _ => true
  | _ => false
def isFinN : FP.Core.Datum → Bool
  | .fin _ c _ => !(Nat.beq c 0)
  | _ => false
theorem i2d_f : ∀ n, n < 200 → isFin (FP.Core.decode FP.Core.b64 (FP.Core.i2d (Int32.ofNat n)).toNat) = true := by decide +kernel
theorem i2d_n : ∀ n, n < 2000 → isFinN (FP.Core.decode FP.Core.b64 (FP.Core.i2d (Int32.ofNat (n + 1))).toNat) = true := by decide +kernel
theorem dv_ok {a b : Int} (ha : 0 ≤ a ∧ a < 200) (hb : 0 < b ∧ b ≤ 2000) : vf_n64 (FP.ddiv (FP.i2d (iI a)) (FP.i2d (iI b))) := by
  have h1 := i2d_f a.toNat (by omega)
  have h2 := i2d_n (b - 1).toNat (by omega)
  rw [← iI_nat, show ((a.toNat : Nat) : Int) = a by omega] at h1
  rw [← iI_nat, show (((b - 1).toNat + 1 : Nat) : Int) = b by omega] at h2
  have h3 : dtOk (FP.Core.quotient FP.Core.b64 (FP.Core.decode FP.Core.b64 (FP.Core.i2d (iI a)).toNat) (FP.Core.decode FP.Core.b64 (FP.Core.i2d (iI b)).toNat)) := by
    cases e1 : FP.Core.decode FP.Core.b64 (FP.Core.i2d (iI a)).toNat with
    | fin s c q =>
      cases e2 : FP.Core.decode FP.Core.b64 (FP.Core.i2d (iI b)).toNat with
      | fin t d r =>
        rw [e2] at h2
        have hd : d ≠ 0 := fun q => by rw [q] at h2; cases h2
        unfold FP.Core.quotient
        dsimp only
        rw [if_neg hd]
        exact rr_ok
      | _ => rw [e2] at h2; cases h2
    | _ => rw [e1] at h1; cases h1
  have h4 := enc_ok h3
  show (UInt64.ofNat (FP.Core.encode FP.Core.b64 _)) &&& 0x7fffffffffffffff ≤ 0x7ff0000000000000
  rw [UInt64.le_iff_toNat_le, UInt64.toNat_and, UInt64.toNat_ofNat']
  show _ % 2 ^ 64 &&& 9223372036854775807 ≤ 9218868437227405312
  rw [show (9223372036854775807 : Nat) = 2 ^ 63 - 1 from rfl, Nat.and_two_pow_sub_one_eq_mod, Nat.mod_mod_of_dvd _ (by decide)]
  exact h4
/-- how busy a machine is -/
def utD (b k : Int) : UInt64 := if k = 0 then 0 else FP.ddiv (FP.i2d (iI b)) (FP.i2d (iI k))
def utlQ (w : tW) (m : Int) (x : UInt64) (w' : tW) : Prop := ∃ rd st, w' = wt (tset w 3 0 0) rd st ∧ fT w 500 rd st ∧ x = utD (durS (w 0) m (sOn (w 0) m).toNat) (mkS (w 0) st)
theorem tw_utilization {w : tW} {m : Int} (hm : -2147483648 ≤ m ∧ m ≤ 2147483647) (hI : TI w) (hac : ∀ rd st, fT w 500 rd st → cntU st (w 0 1).toNat = 0) : zMet yX4_utilization (ws_ yX4_utilization cX4_utilization 4 (some .double)) 7 [.ref 1000, .int (iI m)] (tH w) (fun z h' => ∃ x w', z = .inl (some (.double x)) ∧ h' = tH w' ∧ (tcMach m = 0 → utlQ w m x w') ∧ (tcMach m ≠ 0 → w' = tset w 3 0 (tcMach m))) 0 0 := by
  have hA := hI.1
  have hO := hI.2.1
  have h20 := hA.2.1.1
  refine zMet.of (by decide) (Nat.le_of_ble_eq_true rfl) fun X K => ?_
  have hq : ∀ x w', (tcMach m = 0 → utlQ w m x w') → (tcMach m ≠ 0 → w' = tset w 3 0 (tcMach m)) → (fun (z : zO) (h' : zH) => ∃ x w', z = .inl (some (.double x)) ∧ h' = tH w' ∧ (tcMach m = 0 → utlQ w m x w') ∧ (tcMach m ≠ 0 → w' = tset w 3 0 (tcMach m))) (.inl (some (.double x))) (tH w') := fun x w' a1 a2 => ⟨x, w', rfl, rfl, a1, a2⟩
  generalize (fun (z : zO) (h' : zH) => ∃ x w', z = .inl (some (.double x)) ∧ h' = tH w' ∧ (tcMach m = 0 → utlQ w m x w') ∧ (tcMach m ≠ 0 → w' = tset w 3 0 (tcMach m))) = Q at *
  have hmk : 0 ≤ m ∧ m ≤ 3 → ∀ env, zsub env [(0, .ref 1000), (1, .int (iI m)), (2, .int (iI (durS (w 0) m (sOn (w 0) m).toNat)))] → zW X Q (tH (tset w 3 0 0)) 0 0 66 env [] := fun h5 env he => by
    refine zW.cut he ?_
    have t0 : tcMach m = 0 := if_pos h5
    have hmn := tw_makespanNow (w := tset w 3 0 0) (bb := 500) (by omega) (Or.inl hI.2.2.2.1) hI.1 hI.2.1 hI.ho (by show -1 ≤ w 14 0 ∧ w 14 0 ≤ 100; rw [hI.2.2.2.1]; omega) hI.2.2.2.2.1
    have c70 : ∀ rd st, fT w 500 rd st → ∀ env, zsub env [(2, .int (iI (durS (w 0) m (sOn (w 0) m).toNat)))] → zW X Q (tH (wt (tset w 3 0 0) rd st)) 0 0 70 env [.int (iI (mkS (w 0) st))] := fun rd st hT env he => by
      refine zW.cut he ?_
      have hr : -1 ≤ mkS (w 0) st ∧ mkS (w 0) st ≤ 5000 := by
        unfold mkS
        split
        · omega
        · have := gEnd_r (s := w 0) (st := st) (n := (w 0 1).toNat) hA (by omega) (fun i hi => by have := hT.2.2 i hi; omega)
          omega
      have mkP : mkS (w 0) st ≠ 0 → 0 < mkS (w 0) st ∧ mkS (w 0) st ≤ 2000 := fun q => by
        have hz0 := hac rd st hT
        have h1 := gMx_le (s := w 0) (st := st) (B := 2000) (by omega) (w 0 1).toNat (fun i hi hs => by
          have := hT.2.2 i (by omega)
          have hdu : 1 ≤ w 0 (82 + (i : Int)).toNat ∧ w 0 (82 + (i : Int)).toNat ≤ 30 := (hA.2.1.2 i (by omega) (by omega)).2.2.1
          omega)
        have h2 := gMx_0 (w 0) st (w 0 1).toNat
        rw [gMx_all _ hz0] at h1 h2
        unfold mkS at q ⊢
        rw [if_neg (by omega)] at q ⊢
        omega
      by_cases hz : mkS (w 0) st = 0
      · have fin := hq (utD (durS (w 0) m (sOn (w 0) m).toNat) (mkS (w 0) st)) (wt (tset w 3 0 0) rd st) (fun _ => ⟨rd, st, rfl, hT, rfl⟩) (fun q => absurd t0 q)
        rw [show utD (durS (w 0) m (sOn (w 0) m).toNat) (mkS (w 0) st) = 0 from if_pos hz] at fin
        refine z_istore_n K dX4_utilization_70 rfl (by decide) rfl ?_
        refine z_iload_n K dX4_utilization_71 rfl rfl ?_
        refine j_if_ne (tgt := 79) K dX4_utilization_72 rfl (by omega) (fun q => absurd hz q) (fun _ => ?_)
        refine z_dconst0 K dX4_utilization_75 ?_
        refine z_goto (tgt := 84) K dX4_utilization_76 rfl ?_
        exact z_dret K (by omega) (by omega) fin dX4_utilization_84
      · have fin := hq (utD (durS (w 0) m (sOn (w 0) m).toNat) (mkS (w 0) st)) (wt (tset w 3 0 0) rd st) (fun _ => ⟨rd, st, rfl, hT, rfl⟩) (fun q => absurd t0 q)
        rw [show utD (durS (w 0) m (sOn (w 0) m).toNat) (mkS (w 0) st) = _ from if_neg hz] at fin
        refine z_istore_n K dX4_utilization_70 rfl (by decide) rfl ?_
        refine z_iload_n K dX4_utilization_71 rfl rfl ?_
        refine j_if_ne (tgt := 79) K dX4_utilization_72 rfl (by omega) (fun _ => ?_) (fun q => absurd q hz)
        refine z_iload_n K dX4_utilization_79 rfl rfl ?_
        refine z_i2d K dX4_utilization_80 ?_
        refine z_iload_n K dX4_utilization_81 rfl rfl ?_
        refine z_i2d K dX4_utilization_82 ?_
        refine z_ddiv K dX4_utilization_83 (dv_ok (by have := durS_r hA hO h5 (sOn (w 0) m).toNat (by have := (hO m h5.1 h5.2).1; omega); have := (hO m h5.1 h5.2).1; omega) (by have := mkP hz; omega)) ?_
        exact z_dret K (by omega) (by omega) fin dX4_utilization_84
    refine z_aload_n K dX4_utilization_66 rfl rfl rfl ?_
    refine t_calli K (hmn) cV_X4_188_X4 rfl rfl (by decide) (Nat.le_of_ble_eq_true rfl) (Nat.le_refl _) (Nat.le_refl _) dX4_utilization_67 ?_
    rintro _ _ ⟨rd, st, rfl, hT, rfl⟩
    exact c70 rd st hT _ ⟨rfl, trivial⟩
  have loop : 0 ≤ m ∧ m ≤ 3 → ∀ (r i : Nat), (i : Int) + r = sOn (w 0) m → ∀ env, zsub env [(0, .ref 1000), (1, .int (iI m)), (2, .int (iI (durS (w 0) m i))), (3, .int (iI i))] → zW X Q (tH (tset w 3 0 0)) 0 0 29 env [] := by
    intro h5 r
    obtain ⟨o1, o2, o3, o4⟩ := hO m h5.1 h5.2
    induction r with
    | zero =>
      intro i hi env he
      refine zW.cut he ?_
      have nx := hmk h5
      rw [show (sOn (w 0) m).toNat = i by omega] at nx
      have e0 : tset w 3 0 0 0 = w 0 := rfl
      (try dsimp only [sRel, sDue, sWt, sLen, sSeq, sJb, sMc, sDu, sFa, sIx, sSu, sBn, sBf, sBl, sOn, sOr] at *)
      refine z_iload_n K dX4_utilization_29 rfl rfl ?_
      refine z_aload_n K dX4_utilization_30 rfl rfl rfl ?_
      refine t_geta K fd_X4_9_0 rfl dX4_utilization_31 ?_
      refine j_sipush K dX4_utilization_34 (by decide +kernel) ?_
      refine z_iload_n K dX4_utilization_37 rfl rfl ?_
      refine j_iadd K dX4_utilization_38 ?_
      refine t_ild K 0 203 rfl rfl rfl (by omega) (by omega) rfl dX4_utilization_39 ?_
      rw [e0]
      refine j_icmp_ge (tgt := 66) K dX4_utilization_40 rfl (by omega) (by omega) (fun c_40 => ?_) (fun c_40 => ?_)
      · exact nx _ ⟨rfl, rfl, rfl, trivial⟩
      · exact absurd c_40 (by omega)
    | succ r ih =>
      intro i hi env he
      refine zW.cut he ?_
      have nx := ih (i + 1) (by omega)
      rw [show durS (w 0) m (i + 1) = durS (w 0) m i + sDu (w 0) (sOr (w 0) m i) from rfl] at nx
      clear ih
      have e0 : tset w 3 0 0 0 = w 0 := rfl
      obtain ⟨q1, q2⟩ := o2 i (by omega) (by omega)
      (try dsimp only [sRel, sDue, sWt, sLen, sSeq, sJb, sMc, sDu, sFa, sIx, sSu, sBn, sBf, sBl, sOn, sOr] at *)
      refine z_iload_n K dX4_utilization_29 rfl rfl ?_
      refine z_aload_n K dX4_utilization_30 rfl rfl rfl ?_
      refine t_geta K fd_X4_9_0 rfl dX4_utilization_31 ?_
      refine j_sipush K dX4_utilization_34 (by decide +kernel) ?_
      refine z_iload_n K dX4_utilization_37 rfl rfl ?_
      refine j_iadd K dX4_utilization_38 ?_
      refine t_ild K 0 203 rfl rfl rfl (by omega) (by omega) rfl dX4_utilization_39 ?_
      rw [e0]
      refine j_icmp_ge (tgt := 66) K dX4_utilization_40 rfl (by omega) (by omega) (fun c_40 => ?_) (fun c_40 => ?_)
      · exact absurd c_40 (by omega)
      · refine z_iload_n K dX4_utilization_43 rfl rfl ?_
        refine z_aload_n K dX4_utilization_44 rfl rfl rfl ?_
        refine t_geta K fd_X4_9_0 rfl dX4_utilization_45 ?_
        refine j_bipush K dX4_utilization_48 (by decide +kernel) ?_
        refine z_aload_n K dX4_utilization_50 rfl rfl rfl ?_
        refine z_iload_n K dX4_utilization_51 rfl rfl ?_
        refine z_iload_n K dX4_utilization_52 rfl rfl ?_
        refine t_callp K (tw_ordered (w := tset w 3 0 0) (by omega) (by omega)) cV_X4_142_X4 rfl rfl (by decide) (Nat.le_of_ble_eq_true rfl) (Nat.le_refl _) (Nat.le_refl _) dX4_utilization_53 ?_
        rw [e0]
        refine j_iadd K dX4_utilization_56 ?_
        refine t_ild K 0 203 rfl rfl rfl (by omega) (by omega) rfl dX4_utilization_57 ?_
        rw [e0]
        refine j_iadd K dX4_utilization_58 ?_
        refine z_istore_n K dX4_utilization_59 rfl (by decide) rfl ?_
        refine j_iinc K dX4_utilization_60 rfl (by decide) rfl ?_
        refine z_goto (tgt := 29) K dX4_utilization_63 rfl ?_
        exact nx _ ⟨rfl, rfl, rfl, rfl, trivial⟩
  have tail : ∀ t : Int, t = tcMach m → 0 ≤ t ∧ t ≤ 1 → (t = 0 → 0 ≤ m ∧ m ≤ 3) → ∀ env, zsub env [(0, .ref 1000), (1, .int (iI m))] → zW X Q (tH w) 0 0 13 env [.int (iI t), .ref 1000] := by
    intro t ht hr h5 env he
    refine zW.cut he ?_
    have go : t = 0 → ∀ env, zsub env [(0, .ref 1000), (1, .int (iI m)), (2, .int (iI 0)), (3, .int (iI 0))] → zW X Q (tH (tset w 3 0 0)) 0 0 29 env [] := fun q => loop (h5 q) (sOn (w 0) m).toNat 0 (by have := (hO m (h5 q).1 (h5 q).2).1; omega)
    have bad : t ≠ 0 → Q (.inl (some (.double 0))) (tH (tset w 3 0 t)) := fun q => hq 0 _ (fun z => absurd (ht.trans z) q) (fun _ => by rw [ht])
    clear loop hmk
    refine t_puti K fd_X4_79_0 ⟨_, rfl, Or.inl rfl⟩ (by decide) rfl rfl dX4_utilization_13 ?_
    refine z_aload_n K dX4_utilization_16 rfl rfl rfl ?_
    refine t_geti K fd_X4_79_0 (by decide) rfl dX4_utilization_17 ?_
    refine j_if_le (tgt := 25) K dX4_utilization_20 rfl (by rw [tset_s]; omega) (fun c_20 => ?_) (fun c_20 => ?_)
    · rw [tset_s] at c_20
      obtain rfl : t = 0 := by omega
      refine j_iconst K dX4_utilization_25 ?_
      refine z_istore_n K dX4_utilization_26 rfl (by decide) rfl ?_
      refine j_iconst K dX4_utilization_27 ?_
      refine z_istore_n K dX4_utilization_28 rfl (by decide) rfl ?_
      exact go rfl _ ⟨rfl, rfl, rfl, rfl, trivial⟩
    · rw [tset_s] at c_20
      refine z_dconst0 K dX4_utilization_23 ?_
      exact z_dret K (by omega) (by omega) (bad (by omega)) dX4_utilization_24
  refine z_aload_n K dX4_utilization_0 rfl rfl rfl ?_
  refine z_iload_n K dX4_utilization_1 rfl rfl ?_
  refine z_calls K (s_isMachine (by omega)) cS_X4_122 rfl rfl (by decide) (Nat.le_of_ble_eq_true rfl) (Nat.le_refl _) (Nat.le_refl _) dX4_utilization_2 ?_
  refine j_if_eq (tgt := 12) K dX4_utilization_5 rfl (b01r _) (fun c_5 => ?_) (fun c_5 => ?_)
  · rw [bI_eq] at c_5
    refine j_iconst K dX4_utilization_12 ?_
    exact tail _ (by unfold tcMach; split <;> omega) (by omega) (by omega) _ ⟨rfl, rfl, trivial⟩
  · rw [bI_ne] at c_5
    refine j_iconst K dX4_utilization_8 ?_
    refine z_goto (tgt := 13) K dX4_utilization_9 rfl ?_
    exact tail _ (by unfold tcMach; split <;> omega) (by omega) (by omega) _ ⟨rfl, rfl, trivial⟩

