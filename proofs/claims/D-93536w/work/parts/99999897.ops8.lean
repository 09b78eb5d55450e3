/-! ===== the component's operations: blocks of the critical path ===== -/
theorem blkN_m (s p : Nat → Int) (k : Nat) : ∀ d : Nat, blkN s p k ≤ blkN s p (k + d)
  | 0 => Int.le_refl _
  | d + 1 => by
    have := blkN_m s p k d
    have := bgI_r s p (k + d)
    rw [show k + (d + 1) = (k + d) + 1 from rfl]
    show _ ≤ blkN s p (k + d) + bgI s p (k + d)
    omega
theorem blkL_z (s p : Nat → Int) {x : Int} : ∀ k : Nat, blkN s p k - 1 < x → blkL s p x k = 0
  | 0, _ => rfl
  | k + 1, h => by
    have := blkN_m s p k 1
    show blkL s p x k + (if blkN s p (k + 1) - 1 = x then 1 else 0) = 0
    rw [blkL_z s p k (by omega), if_neg (by omega)]
    rfl
theorem blkL_c (s p : Nat → Int) {x : Int} {k : Nat} (h : x < blkN s p (k + 1) - 1) : ∀ d : Nat, blkL s p x (k + d) = blkL s p x k
  | 0 => rfl
  | d + 1 => by
    have h1 := blkN_m s p (k + 1) d
    rw [show k + 1 + d = k + d + 1 by omega] at h1
    show blkL s p x (k + d) + (if blkN s p (k + d + 1) - 1 = x then 1 else 0) = _
    rw [blkL_c s p h d, if_neg (by omega), Int.add_zero]
theorem blkL_r (s p : Nat → Int) (x : Int) : ∀ k : Nat, 0 ≤ blkL s p x k ∧ blkL s p x k ≤ k
  | 0 => ⟨Int.le_refl _, Int.le_refl _⟩
  | k + 1 => by
    have := blkL_r s p x k
    show 0 ≤ blkL s p x k + (if blkN s p (k + 1) - 1 = x then 1 else 0) ∧ blkL s p x k + (if blkN s p (k + 1) - 1 = x then 1 else 0) ≤ _
    split <;> omega
/-- the names of the lengths -/
def blF (s p : Nat → Int) (n : Nat) : Nat → Nat := fun x => 300 + (blkL s p x n + 128).toNat
section XO8
variable {b N : Nat} {u u' w : tW} {g h0 : zH}
theorem zOb_int {h : zH} (hA : Am h) {k : Nat} (hk : k < 256) : zOb h (300 + k) := Or.inl ⟨_, _, _, hA.2.2.2.2.2.2 k hk, rfl, q2302⟩
theorem bl_loop {X : zX} {Q : zO → zH → Prop} (K : zK yX1_blockLengths cX1_blockLengths 5 (some (.object "java/util/ArrayList")) [] 11 100 2000 X) {n : Nat} {P : Nat → Int} {c1 : Int} {G : zH} (hb : 1000 ≤ b) (hN : b + 72 ≤ N) (hA : WfA (u 0)) (hP : ∀ i : Nat, i < n → 0 ≤ P i ∧ P i < u 0 1) (hn : n ≤ 20) (hgm : Am G)
    (hg1 : ∀ (i c : Int) (x : Nat) (f : Nat → Nat), 0 ≤ i → i < n → zG2 (N + 4) i (sH b u (lH (N + 8) c x f G)) (b + 52 + (P i.toNat).toNat)) (hg0 : ∀ (c : Int) (x : Nat) (f : Nat → Nat), sH b u (lH (N + 8) c x f G) (N + 4) = some (oL c1 (lA (N + 4) n) n))
    (fin : ∀ c, Q (.inl (some (.ref (N + 8)))) (sH b u (lH (N + 8) c (blkN (u 0) P n).toNat (blF (u 0) P n) G))) : ∀ (r k fr x : Nat) (c9 : Int), r + k = n + 1 → 1 ≤ k → fr < k → x < k → (k ≤ n → (x : Int) = blkN (u 0) P k - 1 ∧ (k : Int) - fr = blkL (u 0) P x k ∧ u 0 (62 + P fr).toNat = u 0 (62 + P (k - 1)).toNat) → (k = n + 1 → (x : Int) = blkN (u 0) P n) → ∀ env, zsub env [(1, .ref (N + 4)), (2, .ref (N + 8)), (3, .int (iI fr)), (4, .int (iI k))] → zW X Q (sH b u (lH (N + 8) c9 x (blF (u 0) P n) G)) (65 + x) (1300 + 22 * x) 18 env [] := by
  have h20 := hA.2.1.1
  intro r
  induction r with
  | zero =>
    intro k fr x c9 hk k1 hf hxk hi he9 env he
    refine zW.cut he ?_
    have f1 := fin c9
    rw [← he9 (by omega), Int.toNat_natCast] at f1
    refine z_iload K dX1_blockLengths_18 rfl ?_
    refine z_aload_n K dX1_blockLengths_20 rfl rfl rfl ?_
    refine z_callV K (jl_size (hg0 _ _ _)) cV_X1_43_J2 (hg0 _ _ _) rfl rfl rfl (by omega) (by omega) (by omega) (Nat.le_of_ble_eq_true rfl) dX1_blockLengths_21 zrX (zrK ?_)
    refine j_icmp_gt (tgt := 86) K dX1_blockLengths_24 rfl (by omega) (by omega) (fun c_24 => ?_) (fun c_24 => ?_)
    · refine z_aload_n K dX1_blockLengths_86 rfl rfl rfl ?_
      exact z_aret K (by simp) rfl (by omega) (by omega) (f1) dX1_blockLengths_87
    · exact absurd c_24 (by omega)
  | succ r ih =>
    intro k fr x c9 hk k1 hf hxk hi he9 env he
    refine zW.cut he ?_
    obtain ⟨i1, i2, i3⟩ := hi (by omega)
    obtain ⟨k', rfl⟩ : ∃ k', k = k' + 1 := ⟨k - 1, by omega⟩
    rw [show k' + 1 - 1 = k' from rfl] at i3
    have hfr := hP fr (by omega)
    have mfr := (hA.2.1.2 _ hfr.1 hfr.2).2.1
    unfold sMc at mfr
    have eN : blkN (u 0) P (k' + 1 + 1) = blkN (u 0) P (k' + 1) + bgI (u 0) P (k' + 1) := rfl
    have eB : bgI (u 0) P (k' + 1) = if u 0 (62 + P (k' + 1)).toNat = u 0 (62 + P k').toNat then 0 else 1 := rfl
    have eL : ∀ y : Int, blkL (u 0) P y (k' + 1 + 1) = blkL (u 0) P y (k' + 1) + (if blkN (u 0) P (k' + 1 + 1) - 1 = y then 1 else 0) := fun y => rfl
    -- one length more
    have more : blkL (u 0) P x n = blkL (u 0) P x (k' + 1) → (k' + 1 + 1 ≤ n → u 0 (62 + P (k' + 1)).toNat ≠ u 0 (62 + P k').toNat) → ∀ env, zsub env [(1, .ref (N + 4)), (2, .ref (N + 8)), (3, .int (iI fr)), (4, .int (iI ((k' + 1 : Nat) : Int)))] → zW X Q (sH b u (lH (N + 8) c9 x (blF (u 0) P n) G)) (65 + x) (1300 + 22 * x) 65 env [] := by
      intro hl hne env he
      refine zW.cut he ?_
      have br := blkL_r (u 0) P
      have hAm : ∀ x f, Am (sH b u (lH (N + 8) c9 x f G)) := fun x f => (hgm.ext lH_ext (by omega)).sh hb
      have kv := jI_valueOf (h := sH b u (lH (N + 8) c9 x (blF (u 0) P n) G)) (v := ((k' + 1 : Nat) : Int) - fr) (hAm _ _) (by omega) (by omega)
      have ef : 300 + ((((k' + 1 : Nat) : Int) - fr) + 128).toNat = blF (u 0) P n x := by unfold blF; rw [hl, ← i2]
      have ka := jl_addS (b := b) (u := u) (L := N + 8) (c := c9) (n := x) (f := blF (u 0) P n) (g := G) (x := blF (u 0) P n x) hgm (by omega) hb (by omega) (by have := br x n; exact zOb_int (hAm _ _) (by omega)) (fun i hi => by have := br i n; exact zOb_int (hAm _ _) (by omega))
      have efF : (fun i => if i = x then blF (u 0) P n x else blF (u 0) P n i) = blF (u 0) P n := by
        funext i
        by_cases z : i = x
        · rw [if_pos z, z]
        · rw [if_neg z]
      rw [efF] at ka
      rw [ef] at kv
      have nx := ih (k' + 1 + 1) (k' + 1) (x + 1) (c9 + 1) (by omega) (by omega) (by omega) (by omega) (fun hkn => by
        have e1 : bgI (u 0) P (k' + 1) = 1 := by rw [eB]; exact if_neg (hne hkn)
        refine ⟨by omega, ?_, rfl⟩
        rw [eL, blkL_z _ _ _ (by omega), if_pos (by omega)]
        omega) (fun e => by rw [show n = k' + 1 by omega]; omega)
      refine z_aload_n K dX1_blockLengths_65 rfl rfl rfl ?_
      refine z_iload K dX1_blockLengths_66 rfl ?_
      refine z_iload_n K dX1_blockLengths_68 rfl rfl ?_
      refine j_isub K dX1_blockLengths_69 ?_
      refine z_callS K (kv) cS_X1_203 rfl rfl (by omega) (by omega) (by omega) (Nat.le_of_ble_eq_true rfl) dX1_blockLengths_70 zrX (zrK ?_)
      refine z_callV K (ka) cV_X1_89_J2 (sH_l0 (by omega)) rfl rfl rfl (by omega) (by omega) (by omega) (Nat.le_of_ble_eq_true rfl) dX1_blockLengths_73 zrX (zrK ?_)
      refine z_pop K dX1_blockLengths_76 rfl ?_
      refine z_iload K dX1_blockLengths_77 rfl ?_
      refine z_istore_n K dX1_blockLengths_79 rfl (by decide) rfl ?_
      refine j_iinc K dX1_blockLengths_80 rfl (by decide) rfl ?_
      refine z_goto (tgt := 18) K dX1_blockLengths_83 rfl ?_
      exact zW.widen (by omega) (by omega) (nx _ ⟨rfl, rfl, rfl, rfl, trivial⟩)
    by_cases hkn : k' + 1 + 1 ≤ n
    · have hpk := hP (k' + 1) (by omega)
      have mk := (hA.2.1.2 _ hpk.1 hpk.2).2.1
      unfold sMc at mk
      have mr1 : i32 (u 0 (62 + P (((k' + 1 : Nat) : Int)).toNat).toNat) := by rw [Int.toNat_natCast]; omega
      have mr2 : i32 (u 0 (62 + P ((fr : Int)).toNat).toNat) := by rw [Int.toNat_natCast]; omega
      by_cases hm : u 0 (62 + P (k' + 1)).toNat = u 0 (62 + P k').toNat
      · have e1 : bgI (u 0) P (k' + 1) = 0 := by rw [eB]; exact if_pos hm
        have nx := ih (k' + 1 + 1) fr x c9 (by omega) (by omega) (by omega) (by omega) (fun _ => by
          refine ⟨by omega, ?_, ?_⟩
          · rw [eL, if_pos (by omega), ← i2]; omega
          · rw [show k' + 1 + 1 - 1 = k' + 1 from rfl, hm]; exact i3) (fun e => absurd e (by omega))
        refine z_iload K dX1_blockLengths_18 rfl ?_
        refine z_aload_n K dX1_blockLengths_20 rfl rfl rfl ?_
        refine z_callV K (jl_size (hg0 _ _ _)) cV_X1_43_J2 (hg0 _ _ _) rfl rfl rfl (by omega) (by omega) (by omega) (Nat.le_of_ble_eq_true rfl) dX1_blockLengths_21 zrX (zrK ?_)
        refine j_icmp_gt (tgt := 86) K dX1_blockLengths_24 rfl (by omega) (by omega) (fun c_24 => ?_) (fun c_24 => ?_)
        · exact absurd c_24 (by omega)
        · refine z_iload K dX1_blockLengths_27 rfl ?_
          refine z_aload_n K dX1_blockLengths_29 rfl rfl rfl ?_
          refine z_callV K (jl_size (hg0 _ _ _)) cV_X1_43_J2 (hg0 _ _ _) rfl rfl rfl (by omega) (by omega) (by omega) (Nat.le_of_ble_eq_true rfl) dX1_blockLengths_30 zrX (zrK ?_)
          refine j_icmp_ge (tgt := 65) K dX1_blockLengths_33 rfl (by omega) (by omega) (fun c_33 => ?_) (fun c_33 => ?_)
          · exact absurd c_33 (by omega)
          · refine z_aload_n K dX1_blockLengths_36 rfl rfl rfl ?_
            refine z_iload K dX1_blockLengths_37 rfl ?_
            refine z_callV K (hg1 ((k' + 1 : Nat) : Int) _ _ _ (by omega) (by omega)) cV_X1_53_J2 (hg0 _ _ _) rfl rfl rfl (by omega) (by omega) (by omega) (Nat.le_of_ble_eq_true rfl) dX1_blockLengths_39 zrX (zrK ?_)
            refine z_castS K (sH_op hpk h20.2) rfl q468 dX1_blockLengths_42 ?_
            refine z_get K fd_X1_133_5 (sH_op hpk h20.2) rfl dX1_blockLengths_45 ?_
            refine z_aload_n K dX1_blockLengths_48 rfl rfl rfl ?_
            refine z_iload_n K dX1_blockLengths_49 rfl rfl ?_
            refine z_callV K (hg1 (fr : Int) _ _ _ (by omega) (by omega)) cV_X1_53_J2 (hg0 _ _ _) rfl rfl rfl (by omega) (by omega) (by omega) (Nat.le_of_ble_eq_true rfl) dX1_blockLengths_50 zrX (zrK ?_)
            refine z_castS K (sH_op hfr h20.2) rfl q468 dX1_blockLengths_53 ?_
            refine z_get K fd_X1_133_5 (sH_op hfr h20.2) rfl dX1_blockLengths_56 ?_
            refine j_icmp_ne (tgt := 65) K dX1_blockLengths_59 rfl mr1 mr2 (fun c_59 => ?_) (fun c_59 => ?_)
            · exact absurd (hm.trans i3.symm) c_59
            · refine z_goto (tgt := 80) K dX1_blockLengths_62 rfl ?_
              refine j_iinc K dX1_blockLengths_80 rfl (by decide) rfl ?_
              refine z_goto (tgt := 18) K dX1_blockLengths_83 rfl ?_
              exact nx _ ⟨rfl, rfl, rfl, rfl, trivial⟩
      · have mo := more (by
          obtain ⟨d, rfl⟩ : ∃ d, n = k' + 1 + d := ⟨n - (k' + 1), by omega⟩
          have e1 : bgI (u 0) P (k' + 1) = 1 := by rw [eB]; exact if_neg hm
          exact blkL_c _ _ (by omega) d) (fun _ => hm)
        refine z_iload K dX1_blockLengths_18 rfl ?_
        refine z_aload_n K dX1_blockLengths_20 rfl rfl rfl ?_
        refine z_callV K (jl_size (hg0 _ _ _)) cV_X1_43_J2 (hg0 _ _ _) rfl rfl rfl (by omega) (by omega) (by omega) (Nat.le_of_ble_eq_true rfl) dX1_blockLengths_21 zrX (zrK ?_)
        refine j_icmp_gt (tgt := 86) K dX1_blockLengths_24 rfl (by omega) (by omega) (fun c_24 => ?_) (fun c_24 => ?_)
        · exact absurd c_24 (by omega)
        · refine z_iload K dX1_blockLengths_27 rfl ?_
          refine z_aload_n K dX1_blockLengths_29 rfl rfl rfl ?_
          refine z_callV K (jl_size (hg0 _ _ _)) cV_X1_43_J2 (hg0 _ _ _) rfl rfl rfl (by omega) (by omega) (by omega) (Nat.le_of_ble_eq_true rfl) dX1_blockLengths_30 zrX (zrK ?_)
          refine j_icmp_ge (tgt := 65) K dX1_blockLengths_33 rfl (by omega) (by omega) (fun c_33 => ?_) (fun c_33 => ?_)
          · exact absurd c_33 (by omega)
          · refine z_aload_n K dX1_blockLengths_36 rfl rfl rfl ?_
            refine z_iload K dX1_blockLengths_37 rfl ?_
            refine z_callV K (hg1 ((k' + 1 : Nat) : Int) _ _ _ (by omega) (by omega)) cV_X1_53_J2 (hg0 _ _ _) rfl rfl rfl (by omega) (by omega) (by omega) (Nat.le_of_ble_eq_true rfl) dX1_blockLengths_39 zrX (zrK ?_)
            refine z_castS K (sH_op hpk h20.2) rfl q468 dX1_blockLengths_42 ?_
            refine z_get K fd_X1_133_5 (sH_op hpk h20.2) rfl dX1_blockLengths_45 ?_
            refine z_aload_n K dX1_blockLengths_48 rfl rfl rfl ?_
            refine z_iload_n K dX1_blockLengths_49 rfl rfl ?_
            refine z_callV K (hg1 (fr : Int) _ _ _ (by omega) (by omega)) cV_X1_53_J2 (hg0 _ _ _) rfl rfl rfl (by omega) (by omega) (by omega) (Nat.le_of_ble_eq_true rfl) dX1_blockLengths_50 zrX (zrK ?_)
            refine z_castS K (sH_op hfr h20.2) rfl q468 dX1_blockLengths_53 ?_
            refine z_get K fd_X1_133_5 (sH_op hfr h20.2) rfl dX1_blockLengths_56 ?_
            refine j_icmp_ne (tgt := 65) K dX1_blockLengths_59 rfl mr1 mr2 (fun c_59 => ?_) (fun c_59 => ?_)
            · exact mo _ ⟨rfl, rfl, rfl, rfl, trivial⟩
            · exact absurd (c_59.trans i3) hm
    · have mo := more (by rw [show n = k' + 1 by omega]) (fun h => absurd h hkn)
      refine z_iload K dX1_blockLengths_18 rfl ?_
      refine z_aload_n K dX1_blockLengths_20 rfl rfl rfl ?_
      refine z_callV K (jl_size (hg0 _ _ _)) cV_X1_43_J2 (hg0 _ _ _) rfl rfl rfl (by omega) (by omega) (by omega) (Nat.le_of_ble_eq_true rfl) dX1_blockLengths_21 zrX (zrK ?_)
      refine j_icmp_gt (tgt := 86) K dX1_blockLengths_24 rfl (by omega) (by omega) (fun c_24 => ?_) (fun c_24 => ?_)
      · exact absurd c_24 (by omega)
      · refine z_iload K dX1_blockLengths_27 rfl ?_
        refine z_aload_n K dX1_blockLengths_29 rfl rfl rfl ?_
        refine z_callV K (jl_size (hg0 _ _ _)) cV_X1_43_J2 (hg0 _ _ _) rfl rfl rfl (by omega) (by omega) (by omega) (Nat.le_of_ble_eq_true rfl) dX1_blockLengths_30 zrX (zrK ?_)
        refine j_icmp_ge (tgt := 65) K dX1_blockLengths_33 rfl (by omega) (by omega) (fun c_33 => ?_) (fun c_33 => ?_)
        · exact mo _ ⟨rfl, rfl, rfl, rfl, trivial⟩
        · exact absurd c_33 (by omega)
def bkQ (b N : Nat) (u : tW) (g : zH) : zO → zH → Prop := fun z h' => ∃ (u' : tW) (rd st : Nat → Int) (c : Int) (g' : zH), z = .inl (some (.ref (N + 8))) ∧ h' = sH b u' (lH (N + 8) c (blkN (u 0) (pthF (u 0) (oB 0) rd st) (pthS (u 0) (oB 0) rd st).length).toNat (blF (u 0) (pthF (u 0) (oB 0) rd st) (pthS (u 0) (oB 0) rd st).length) g') ∧ SK u u' ∧ Sch (u 0) u' rd st ∧ zExt N g g' ∧ zTop g' (N + 8) ∧ (pthS (u 0) (oB 0) rd st).length ≤ 20
theorem x1_blockLengths (hC : CG b N u g w) : zMet yX1_blockLengths (ws_ yX1_blockLengths cX1_blockLengths 5 (some (.object "java/util/ArrayList"))) 11 [.ref 1040] (sH b u g) (bkQ b N u g) 100 2000 := by
  obtain ⟨sv, T, fl, cl, hx⟩ := hC.xg
  have n8 := hC.n8
  have k1 := x1_criticalPath hC
  refine zMet.of (by decide) (Nat.le_of_ble_eq_true rfl) fun X K => ?_
  have main : ∀ (u' : tW) (rd st : Nat → Int) (c : Int) (g' : zH), SK u u' → Sch (u 0) u' rd st → zExt N g g' → zTop g' (N + 4) → (pthS (u 0) (oB 0) rd st).length ≤ 20 → (∀ i : Nat, i < (pthS (u 0) (oB 0) rd st).length → 0 ≤ pthF (u 0) (oB 0) rd st i ∧ pthF (u 0) (oB 0) rd st i < u 0 1) → ∀ env, zsub env [] → zW X (bkQ b N u g) (sH b u' (lH (N + 4) c (pthS (u 0) (oB 0) rd st).length (fun i => b + 52 + (pthF (u 0) (oB 0) rd st i).toNat) g')) 60 1200 4 env [.ref (N + 4)] := by
    intro u' rd st c g' sk sc hge hgt hl hp env he
    refine zW.cut he ?_
    have e0 := sk.e0
    have hQ : ∀ c2, bkQ b N u g (.inl (some (.ref (N + 8)))) (sH b u' (lH (N + 8) c2 (blkN (u 0) (pthF (u 0) (oB 0) rd st) (pthS (u 0) (oB 0) rd st).length).toNat (blF (u 0) (pthF (u 0) (oB 0) rd st) (pthS (u 0) (oB 0) rd st).length) (lH (N + 4) c (pthS (u 0) (oB 0) rd st).length (fun i => b + 52 + (pthF (u 0) (oB 0) rd st i).toNat) g'))) := fun c2 => ⟨u', rd, st, c2, _, rfl, rfl, sk, sc, hge.tr lH_ext (by omega), lH_top hgt, hl⟩
    generalize bkQ b N u g = Q at *
    generalize (pthS (u 0) (oB 0) rd st).length = n at *
    generalize pthF (u 0) (oB 0) rd st = P at *
    rw [← e0] at hQ hp
    have hgm : Am (lH (N + 4) c n (fun i => b + 52 + (P i).toNat) g') := hC.2.2.1.ext (hge.tr lH_ext (by omega)) (by omega)
    have hgT : zTop (lH (N + 4) c n (fun i => b + 52 + (P i).toNat) g') (N + 8) := lH_top hgt
    have hg1 : ∀ (i c2 : Int) (x : Nat) (f : Nat → Nat), 0 ≤ i → i < n → zG2 (N + 4) i (sH b u' (lH (N + 8) c2 x f (lH (N + 4) c n (fun i => b + 52 + (P i).toNat) g'))) (b + 52 + (P i.toNat).toNat) := fun i c2 x f i0 i1 => by
      rw [lH_lH (L := N + 8) (M := N + 4) (by omega)]
      exact jl_getS (f := fun i => b + 52 + (P i).toNat) (by omega) ⟨i0, i1⟩ (by omega)
    have hg0 : ∀ (c2 : Int) (x : Nat) (f : Nat → Nat), sH b u' (lH (N + 8) c2 x f (lH (N + 4) c n (fun i => b + 52 + (P i).toNat) g')) (N + 4) = some (oL c (lA (N + 4) n) n) := fun c2 x f => by rw [sH_out (by omega), lH_o (by omega), lH_0]
    have hs := jl_newS (b := b) (u := u') (L := N + 8) (f := blF (u' 0) P n) hgm hgT (by omega) n8.1
    have hfr : sH b u' (lH (N + 4) c n (fun i => b + 52 + (P i).toNat) g') (N + 8) = none := (sH_out (by omega)).trans (hgT _ (Nat.le_refl _))
    generalize lH (N + 4) c n (fun i => b + 52 + (P i).toNat) g' = G at *
    have lp := bl_loop K n8.1 n8.2.2.1 (by rw [e0]; exact hC.A) hp hl hgm hg1 hg0 hQ n 1 0 0 0 (by omega) (by omega) (by omega) (by omega) (fun h1 => by
      refine ⟨rfl, ?_, rfl⟩
      show (1 : Int) - 0 = 0 + (if (0 : Int) + 1 - 1 = 0 then 1 else 0)
      rfl) (fun e => by rw [show n = 0 by omega]; rfl)
    refine z_astore_n K dX1_blockLengths_4 rfl rfl (by decide) rfl ?_
    refine z_new K (N + 8) nw_X1_44 hfr (by omega) (by omega) (by omega) dX1_blockLengths_5 ?_
    refine z_dup K dX1_blockLengths_8 rfl ?_
    refine z_cI (fs := []) K (hs) cI_X1_202 rfl rfl (by omega) (by omega) (by omega) (Nat.le_of_ble_eq_true rfl) dX1_blockLengths_9 zvX (zvK ?_)
    refine z_astore_n K dX1_blockLengths_12 rfl rfl (by decide) rfl ?_
    refine j_iconst K dX1_blockLengths_13 ?_
    refine z_istore_n K dX1_blockLengths_14 rfl (by decide) rfl ?_
    refine j_iconst K dX1_blockLengths_15 ?_
    refine z_istore K dX1_blockLengths_16 (by decide) rfl ?_
    exact zW.widen (by omega) (by omega) (lp _ ⟨rfl, rfl, rfl, rfl, trivial⟩)
  refine z_aload_n K dX1_blockLengths_0 rfl rfl rfl ?_
  refine z_callV K (k1) cV_X1_196_X1 (hx _) rfl rfl rfl (by omega) (by omega) (by omega) (Nat.le_of_ble_eq_true rfl) dX1_blockLengths_1 (fun q h1 hq => by obtain ⟨_, _, _, _, _, z, -⟩ := hq; cases z) ?_
  rintro v h1 ⟨u', rd, st, c, g', z, rfl, sk, sc, hge, hgt, hl, hp⟩
  cases z
  exact main u' rd st c g' sk sc hge hgt hl hp _ trivial
theorem CG.bl {c : Int} {n : Nat} {f : Nat → Nat} {g' : zH} (hC : CG b N u g w) (sk : SK u u') (he : zExt N g g') (ht : zTop g' (N + 8)) : CG b (N + 12) u' (lH (N + 8) c n f g') w := by
  exact (hC.sk sk).gr (he.tr lH_ext (by omega)) (lH_top ht) (by omega)
theorem PW.f {w' : tW} {rd st rd' st' : Nat → Int} (hC : CG b N u g w) (hI : TI w) (sc : Sch (u 0) u' rd st) (h : PW w w' rd' st') : pthF (w 0) (w 13) rd' st' = pthF (u 0) (oB 0) rd st := by
  funext i
  unfold pthF
  rw [h.e hC hI sc]
theorem x1_blocks (hC : CG b N u g w) (hI : TI w) : zMet yX1_blocks (ws_ yX1_blocks cX1_blocks 1 (some .int)) 12 [.ref 1040] (sH b u g) (cQ (sH b u g) (fun v w' => ∃ rd st, PW w w' rd st ∧ w' 3 0 = 0 ∧ v = blkN (w 0) (pthF (w 0) (w 13) rd st) (pthS (w 0) (w 13) rd st).length) (cdA 99 99 99)) 100 2000 := by
  obtain ⟨sv, T, fl, cl, hx⟩ := hC.xg
  have n8 := hC.n8
  have k1 := x1_blockLengths hC
  refine zMet.of (by decide) (Nat.le_of_ble_eq_true rfl) fun X K => ?_
  refine z_aload_n K dX1_blocks_0 rfl rfl rfl ?_
  refine z_callV K (k1) cV_X1_209_X1 (hx _) rfl rfl rfl (by omega) (by omega) (by omega) (Nat.le_of_ble_eq_true rfl) dX1_blocks_1 (fun q h1 hq => by obtain ⟨_, _, _, _, _, z, -⟩ := hq; cases z) ?_
  rintro v h1 ⟨u', rd, st, c, g', z, rfl, sk, sc, hge, hgt, hl⟩
  cases z
  refine z_callV K (jl_size (sH_l0 (by omega))) cV_X1_43_J2 (sH_l0 (by omega)) rfl rfl rfl (by omega) (by omega) (by omega) (Nat.le_of_ble_eq_true rfl) dX1_blocks_4 zrX (zrK ?_)
  exact z_iret K (by omega) (by omega) (cQ.ok (hC.bl sk hge hgt) (fun m hm => (hC.lo m hm).trans ((lH_o (by omega)).trans (hge m (by omega))).symm) (by rintro v' w' ⟨rd', st', pw, h3, rfl⟩; exact ⟨h3, by rw [pw.f hC hI sc, pw.e hC hI sc, ← hC.row]; have := blkN_r (u 0) (pthF (u 0) (oB 0) rd st) (pthS (u 0) (oB 0) rd st).length; omega, pw.sw⟩)) dX1_blocks_7
theorem x1_blockLength {i : Int} (hC : CG b N u g w) (hI : TI w) (hi : i32 i) : zMet yX1_blockLength (ws_ yX1_blockLength cX1_blockLength 3 (some .int)) 12 [.ref 1040, .int (iI i)] (sH b u g) (cQ (sH b u g) (fun v w' => ∃ rd st, PW w w' rd st ∧ w' 3 0 = tcPath (blkN (w 0) (pthF (w 0) (w 13) rd st) (pthS (w 0) (w 13) rd st).length) i ∧ (w' 3 0 = 0 → v = blkL (w 0) (pthF (w 0) (w 13) rd st) i (pthS (w 0) (w 13) rd st).length)) (cdA 25 99 99)) 101 2006 := by
  obtain ⟨sv, T, fl, cl, hx⟩ := hC.xg
  have n8 := hC.n8
  have k1 := x1_blockLengths hC
  generalize hR : (fun v w' => ∃ rd st, PW w w' rd st ∧ w' 3 0 = tcPath (blkN (w 0) (pthF (w 0) (w 13) rd st) (pthS (w 0) (w 13) rd st).length) i ∧ (w' 3 0 = 0 → v = blkL (w 0) (pthF (w 0) (w 13) rd st) i (pthS (w 0) (w 13) rd st).length)) = R
  have hok : ∀ (u' : tW) (rd st : Nat → Int) (c : Int) (g' : zH) (f : Nat → Nat) (n : Nat), SK u u' → Sch (u 0) u' rd st → zExt N g g' → zTop g' (N + 8) → (0 ≤ i ∧ i ≤ blkN (u 0) (pthF (u 0) (oB 0) rd st) (pthS (u 0) (oB 0) rd st).length - 1) → cQ (sH b u g) R (cdA 25 99 99) (.inl (some (.int (iI (blkL (u 0) (pthF (u 0) (oB 0) rd st) i (pthS (u 0) (oB 0) rd st).length))))) (sH b u' (lH (N + 8) c n f g')) := fun u' rd st c g' f n sk sc hge hgt ck => cQ.ok (hC.bl sk hge hgt) (fun m hm => (hC.lo m hm).trans ((lH_o (by omega)).trans (hge m (by omega))).symm) (by
    intro v' w' r
    rw [← hR] at r
    obtain ⟨rd', st', pw, h3, h4⟩ := r
    rw [pw.f hC hI sc, pw.e hC hI sc, ← hC.row] at h3 h4
    rw [show tcPath (blkN (u 0) (pthF (u 0) (oB 0) rd st) (pthS (u 0) (oB 0) rd st).length) i = 0 from if_pos ck] at h3
    exact ⟨h3, h4 h3, pw.sw⟩)
  have hex : ∀ (u' : tW) (rd st : Nat → Int) (c : Int) (g' : zH) (f : Nat → Nat) (n : Nat) (fs : List Value), SK u u' → Sch (u 0) u' rd st → zExt N g g' → zTop g' (N + 8) → ¬ (0 ≤ i ∧ i ≤ blkN (u 0) (pthF (u 0) (oB 0) rd st) (pthS (u 0) (oB 0) rd st).length - 1) → cQ (sH b u g) R (cdA 25 99 99) (.inr (N + 12)) (zup (sH b u' (lH (N + 8) c n f g')) (N + 12) (.inr (25, fs))) := fun u' rd st c g' f n fs sk sc hge hgt ck => cQ.ex (hC.bl sk hge hgt) (fun m hm => (hC.lo m hm).trans ((lH_o (by omega)).trans (hge m (by omega))).symm) (by decide) (by
    intro v' w' r
    rw [← hR] at r
    obtain ⟨rd', st', pw, h3, h4⟩ := r
    rw [pw.f hC hI sc, pw.e hC hI sc, ← hC.row] at h3
    rw [show tcPath (blkN (u 0) (pthF (u 0) (oB 0) rd st) (pthS (u 0) (oB 0) rd st).length) i = 1 from if_neg ck] at h3
    exact ⟨h3, pw.sw⟩)
  clear hR
  refine zMet.of (by decide) (Nat.le_of_ble_eq_true rfl) fun X K => ?_
  have main : ∀ (u' : tW) (rd st : Nat → Int) (c : Int) (g' : zH), SK u u' → Sch (u 0) u' rd st → zExt N g g' → zTop g' (N + 8) → (pthS (u 0) (oB 0) rd st).length ≤ 20 → ∀ env, zsub env [(1, .int (iI i))] → zW X (cQ (sH b u g) R (cdA 25 99 99)) (sH b u' (lH (N + 8) c (blkN (u 0) (pthF (u 0) (oB 0) rd st) (pthS (u 0) (oB 0) rd st).length).toNat (blF (u 0) (pthF (u 0) (oB 0) rd st) (pthS (u 0) (oB 0) rd st).length) g')) 100 2000 4 env [.ref (N + 8)] := by
    intro u' rd st c g' sk sc hge hgt hl env he
    refine zW.cut he ?_
    have hok1 := hok u' rd st c g' (blF (u 0) (pthF (u 0) (oB 0) rd st) (pthS (u 0) (oB 0) rd st).length) (blkN (u 0) (pthF (u 0) (oB 0) rd st) (pthS (u 0) (oB 0) rd st).length).toNat sk sc hge hgt
    have hex1 := fun fs => hex u' rd st c g' (blF (u 0) (pthF (u 0) (oB 0) rd st) (pthS (u 0) (oB 0) rd st).length) (blkN (u 0) (pthF (u 0) (oB 0) rd st) (pthS (u 0) (oB 0) rd st).length).toNat fs sk sc hge hgt
    have hC2 := hC.bl (c := c) (n := (blkN (u 0) (pthF (u 0) (oB 0) rd st) (pthS (u 0) (oB 0) rd st).length).toNat) (f := blF (u 0) (pthF (u 0) (oB 0) rd st) (pthS (u 0) (oB 0) rd st).length) sk hge hgt
    have nr := blkN_r (u 0) (pthF (u 0) (oB 0) rd st) (pthS (u 0) (oB 0) rd st).length
    have lr := blkL_r (u 0) (pthF (u 0) (oB 0) rd st) i (pthS (u 0) (oB 0) rd st).length
    generalize (pthS (u 0) (oB 0) rd st).length = n at *
    generalize pthF (u 0) (oB 0) rd st = P at *
    generalize hB : blkN (u 0) P n = B at *
    have hkey : 0 ≤ i → sH b u' (lH (N + 8) c B.toNat (blF (u 0) P n) g') (blF (u 0) P n i.toNat) = some (.inr (21, [.int (iI (blkL (u 0) P i n))])) := fun i0 => by
      have := hC2.am.2.2.2.2.2.2 (blkL (u 0) P i n + 128).toNat (by omega)
      rw [show blF (u 0) P n i.toNat = 300 + (blkL (u 0) P i n + 128).toNat by unfold blF; rw [show ((i.toNat : Nat) : Int) = i by omega]]
      rw [this]
      rw [vb_i _ (by omega), show (((blkL (u 0) P i n + 128).toNat : Nat) : Int) - 128 = blkL (u 0) P i n by omega]
    refine z_astore_n K dX1_blockLength_4 rfl rfl (by decide) rfl ?_
    refine z_iload_n K dX1_blockLength_5 rfl rfl ?_
    refine j_iconst K dX1_blockLength_6 ?_
    refine z_aload_n K dX1_blockLength_7 rfl rfl rfl ?_
    refine z_callV K (jl_size (sH_l0 (by omega))) cV_X1_43_J2 (sH_l0 (by omega)) rfl rfl rfl (by omega) (by omega) (by omega) (Nat.le_of_ble_eq_true rfl) dX1_blockLength_8 zrX (zrK ?_)
    refine j_iconst K dX1_blockLength_11 ?_
    refine j_isub K dX1_blockLength_12 ?_
    refine z_callS K (x1_inG (x := i) (a := 0) (b := (B.toNat : Int) - 1) hi (by omega) (by omega)) cS_X1_3 rfl rfl (by omega) (by omega) (by omega) (Nat.le_of_ble_eq_true rfl) dX1_blockLength_13 zrX (zrK ?_)
    refine z_callS K (x1_checkElement (N := N + 12) hC2.am (b01r _) hC2.fr (by omega)) cS_X1_152 rfl rfl (by omega) (by omega) (by omega) (Nat.le_of_ble_eq_true rfl) dX1_blockLength_16 (ckX fun ck_16 => z_out K rfl (by omega) (by omega) (hex1 _ (fun q => ck_16 (by rw [if_pos (by omega)]; decide)))) (ckK fun ck_16 => ?_)
    have ck := bI_n ck_16
    refine z_aload_n K dX1_blockLength_19 rfl rfl rfl ?_
    refine z_iload_n K dX1_blockLength_20 rfl rfl ?_
    refine z_callV K (jl_getS (f := blF (u 0) P n) (by omega) (by omega) (by omega)) cV_X1_53_J2 (sH_l0 (by omega)) rfl rfl rfl (by omega) (by omega) (by omega) (Nat.le_of_ble_eq_true rfl) dX1_blockLength_21 zrX (zrK ?_)
    refine z_castS K (hkey ck.1) rfl q1027 dX1_blockLength_24 ?_
    refine z_callV K (jI_intValue (hkey ck.1)) cV_X1_212_J21 (hkey ck.1) rfl rfl rfl (by omega) (by omega) (by omega) (Nat.le_of_ble_eq_true rfl) dX1_blockLength_27 zrX (zrK ?_)
    exact z_iret K (by omega) (by omega) (hok1 (by omega)) dX1_blockLength_30
  refine z_aload_n K dX1_blockLength_0 rfl rfl rfl ?_
  refine z_callV K (k1) cV_X1_209_X1 (hx _) rfl rfl rfl (by omega) (by omega) (by omega) (Nat.le_of_ble_eq_true rfl) dX1_blockLength_1 (fun q h1 hq => by obtain ⟨_, _, _, _, _, z, -⟩ := hq; cases z) ?_
  rintro v h1 ⟨u', rd, st, c, g', z, rfl, sk, sc, hge, hgt, hl⟩
  cases z
  exact main u' rd st c g' sk sc hge hgt hl _ ⟨rfl, trivial⟩
end XO8

