/-! ===== a job more in a shop: the calls; Creator ===== -/
section XNk
variable {b k : Nat} {u : tW} {g : zH} {r d w : Int}
abbrev nJH (b k : Nat) (H : zH) (r d w : Int) : zH := zup (zup (zup H (b + 37 + k) (aI 3 (jV r d w))) (b + 42 + k) (oL 0 1 0)) (b + 32 + k) (.inr (4, [.ref (b + 37 + k), .ref (b + 42 + k)]))
theorem nj_free (hk : u 0 0 = k) (k5 : k < 5) : sH b u g (b + 32 + k) = none := by rw [Nat.add_assoc b 32, sH_in _ (by omega), sC_32 (by omega), if_neg (by omega)]
theorem nj_init (hb : 1000 ≤ b) (hAm : Am g) (hk : u 0 0 = k) (k5 : k < 5) : zMet yX5_init (ws_ yX5_init cX5_init 4 none) 5 [.ref (b + 32 + k), .int (iI r), .int (iI d), .int (iI w)] (zup (sH b u g) (b + 32 + k) (.inr (4, [.null, .null]))) (zVd (nJH b k (sH b u g) r d w)) 2 6 := by
  obtain ⟨⟨f1, hA1⟩, -⟩ := id hAm
  have f37 : sH b u g (b + 37 + k) = none := by rw [Nat.add_assoc b 37, sH_in _ (by omega), sC_37 (by omega), if_neg (by omega)]
  have f42 : sH b u g (b + 42 + k) = none := by rw [Nat.add_assoc b 42, sH_in _ (by omega), sC_42 (by omega), if_neg (by omega)]
  have hn1 : sH b u g 1 = some (aR 0 0 f1) := (sH_out (by omega)).trans hA1
  have hin := x5_init (h := zup (sH b u g) (b + 32 + k) (.inr (4, [.null, .null]))) (o := b + 32 + k) (r := b + 37 + k) (l := b + 42 + k) (v1 := r) (v2 := d) (v3 := w) (zup_at _ _ _) ((zup_ne (by omega)).trans f37) ((zup_ne (by omega)).trans f42) ((zup_ne (by omega)).trans hn1) (by omega) (by omega) (by omega) (by omega)
  rw [zup_ow (by omega) (by omega)] at hin
  exact hin
theorem nj_l : nJH b k (sH b u g) r d w (b + 1) = some (oL (u 6 0) (if u 0 0 = 0 then 1 else b + 2) (u 0 0)) := (zup_ne (by omega)).trans ((zup_ne (by omega)).trans ((zup_ne (by omega)).trans sH_jobs))
theorem nj_add (hb : 1000 ≤ b) (hAm : Am g) (hk : u 0 0 = k) (k5 : k < 5) : zMet yJ2_add (ws_ yJ2_add cJ2_add 2 (some .boolean)) 7 [.ref (b + 1), .ref (b + 32 + k)] (nJH b k (sH b u g) r d w) (zRet (.int (iI 1)) (sH b (wNJ u k r d w) g)) 1 22 := by
  obtain ⟨⟨f1, hA1⟩, -⟩ := id hAm
  have hn1 : sH b u g 1 = some (aR 0 0 f1) := (sH_out (by omega)).trans hA1
  have had := jobsAdd (b := b) (H := nJH b k (sH b u g) r d w) (k := k) (c := u 6 0) (f1 := f1) (by omega) ((zup_ne (by omega)).trans ((zup_ne (by omega)).trans ((zup_ne (by omega)).trans (by rw [sH_in _ (by omega), sC_1, hk]; by_cases z : k = 0; rw [if_pos (by omega), if_pos z]; rw [if_neg (by omega), if_neg z])))) (fun z => (zup_ne (by omega)).trans ((zup_ne (by omega)).trans ((zup_ne (by omega)).trans (by rw [sH_in _ (by omega), sC_2, hk, if_neg (by omega), Int.toNat_natCast])))) (fun z => (zup_ne (by omega)).trans ((zup_ne (by omega)).trans ((zup_ne (by omega)).trans (by rw [sH_in _ (by omega), sC_2, hk, if_pos (by omega)])))) ((zup_ne (by omega)).trans ((zup_ne (by omega)).trans ((zup_ne (by omega)).trans hn1))) (zOb_jb (zup_at _ _ _)) (by omega)
  rw [sH_newjob (g := g) hk (by omega)] at had
  exact had
end XNk
theorem bI_n {p : Prop} [Decidable p] (h : ¬ bI p = 0) : p := by
  by_cases q : p
  · exact q
  · exact absurd (if_neg q) h
theorem bI_y {p : Prop} [Decidable p] (h : bI p = 0) : ¬ p := fun q => by
  have : bI p = 1 := if_pos q
  omega
/-- in, for all numbers -/
theorem x1_inG {h : zH} {x a b : Int} (hx : -2147483648 ≤ x ∧ x ≤ 2147483647) (ha : -100000 ≤ a ∧ a ≤ 100000) (hb : -100000 ≤ b ∧ b ≤ 100000) : zMet yX1_in (ws_ yX1_in cX1_in 3 (some .boolean)) 1 [.int (iI x), .int (iI a), .int (iI b)] h (zRet (.int (iI (bI (a ≤ x ∧ x ≤ b)))) h) 0 0 := by
  refine zMet.of (by decide) (Nat.le_of_ble_eq_true rfl) fun X K => ?_
  refine z_iload_n K dX1_in_0 rfl rfl ?_
  refine z_iload_n K dX1_in_1 rfl rfl ?_
  refine j_icmp_lt (tgt := 14) K dX1_in_2 rfl (by omega) (by omega) (fun c_2 => ?_) (fun c_2 => ?_)
  · have e : bI (a ≤ x ∧ x ≤ b) = 0 := if_neg (by omega)
    refine j_iconst K dX1_in_14 ?_
    exact z_zret K (iI_b (by omega)) (by omega) (by omega) (⟨by rw [e], rfl⟩) dX1_in_15
  · refine z_iload_n K dX1_in_5 rfl rfl ?_
    refine z_iload_n K dX1_in_6 rfl rfl ?_
    refine j_icmp_gt (tgt := 14) K dX1_in_7 rfl (by omega) (by omega) (fun c_7 => ?_) (fun c_7 => ?_)
    · have e : bI (a ≤ x ∧ x ≤ b) = 0 := if_neg (by omega)
      refine j_iconst K dX1_in_14 ?_
      exact z_zret K (iI_b (by omega)) (by omega) (by omega) (⟨by rw [e], rfl⟩) dX1_in_15
    · have e : bI (a ≤ x ∧ x ≤ b) = 1 := if_pos (by omega)
      refine j_iconst K dX1_in_10 ?_
      refine z_goto (tgt := 15) K dX1_in_11 rfl ?_
      exact z_zret K (iI_b (by omega)) (by omega) (by omega) (⟨by rw [e], rfl⟩) dX1_in_15
abbrev isJV (r d w : Int) : Prop := (0 ≤ r ∧ r ≤ 99) ∧ (0 ≤ d ∧ d ≤ 200) ∧ 0 ≤ w ∧ w ≤ 9
abbrev i32 (x : Int) : Prop := -2147483648 ≤ x ∧ x ≤ 2147483647
theorem x1_areJobValues {h : zH} {r d w : Int} (hr : i32 r) (hd : i32 d) (hw : i32 w) : zMet yX1_areJobValues (ws_ yX1_areJobValues cX1_areJobValues 3 (some .boolean)) 2 [.int (iI r), .int (iI d), .int (iI w)] h (zRet (.int (iI (bI (isJV r d w)))) h) 0 0 := by
  refine zMet.of (by decide) (Nat.le_of_ble_eq_true rfl) fun X K => ?_
  have k1 := x1_inG (h := h) (x := r) (a := 0) (b := 99) hr (by omega) (by omega)
  have k2 := x1_inG (h := h) (x := d) (a := 0) (b := 200) hd (by omega) (by omega)
  have k3 := x1_inG (h := h) (x := w) (a := 0) (b := 9) hw (by omega) (by omega)
  refine z_iload_n K dX1_areJobValues_0 rfl rfl ?_
  refine j_iconst K dX1_areJobValues_1 ?_
  refine j_bipush K dX1_areJobValues_2 (by decide +kernel) ?_
  refine z_callS K (k1) cS_X1_3 rfl rfl (by omega) (by omega) (by omega) (Nat.le_of_ble_eq_true rfl) dX1_areJobValues_4 zrX (zrK ?_)
  refine j_if_eq (tgt := 35) K dX1_areJobValues_7 rfl (b01r _) (fun c_7 => ?_) (fun c_7 => ?_)
  · have e : bI (isJV r d w) = 0 := if_neg (fun q => bI_y c_7 q.1)
    refine j_iconst K dX1_areJobValues_35 ?_
    exact z_zret K (iI_b (by omega)) (by omega) (by omega) (⟨by rw [e], rfl⟩) dX1_areJobValues_36
  · refine z_iload_n K dX1_areJobValues_10 rfl rfl ?_
    refine j_iconst K dX1_areJobValues_11 ?_
    refine j_sipush K dX1_areJobValues_12 (by decide +kernel) ?_
    refine z_callS K (k2) cS_X1_3 rfl rfl (by omega) (by omega) (by omega) (Nat.le_of_ble_eq_true rfl) dX1_areJobValues_15 zrX (zrK ?_)
    refine j_if_eq (tgt := 35) K dX1_areJobValues_18 rfl (b01r _) (fun c_18 => ?_) (fun c_18 => ?_)
    · have e : bI (isJV r d w) = 0 := if_neg (fun q => bI_y c_18 q.2.1)
      refine j_iconst K dX1_areJobValues_35 ?_
      exact z_zret K (iI_b (by omega)) (by omega) (by omega) (⟨by rw [e], rfl⟩) dX1_areJobValues_36
    · refine z_iload_n K dX1_areJobValues_21 rfl rfl ?_
      refine j_iconst K dX1_areJobValues_22 ?_
      refine j_bipush K dX1_areJobValues_23 (by decide +kernel) ?_
      refine z_callS K (k3) cS_X1_3 rfl rfl (by omega) (by omega) (by omega) (Nat.le_of_ble_eq_true rfl) dX1_areJobValues_25 zrX (zrK ?_)
      refine j_if_eq (tgt := 35) K dX1_areJobValues_28 rfl (b01r _) (fun c_28 => ?_) (fun c_28 => ?_)
      · have e : bI (isJV r d w) = 0 := if_neg (fun q => bI_y c_28 q.2.2)
        refine j_iconst K dX1_areJobValues_35 ?_
        exact z_zret K (iI_b (by omega)) (by omega) (by omega) (⟨by rw [e], rfl⟩) dX1_areJobValues_36
      · have e : bI (isJV r d w) = 1 := if_pos ⟨bI_n c_7, bI_n c_18, bI_n c_28⟩
        refine j_iconst K dX1_areJobValues_31 ?_
        refine z_goto (tgt := 36) K dX1_areJobValues_32 rfl ?_
        exact z_zret K (iI_b (by omega)) (by omega) (by omega) (⟨by rw [e], rfl⟩) dX1_areJobValues_36
section XCr
variable {b C N T : Nat} {u : tW} {g h : zH} {j i m d f : Int}
abbrev oCr (b : Nat) : zC := .inr (15, [.ref b])
theorem x16_init (hC : h C = some (.inr (15, [.null]))) (C8 : 1000 ≤ C) : zMet yX16_init (ws_ yX16_init cX16_init 2 none) 1 [.ref C, .ref b] h (zVd (zup h C (oCr b))) 0 0 := by
  refine zMet.of (by decide) (Nat.le_of_ble_eq_true rfl) fun X K => ?_
  refine z_aload_n K dX16_init_0 rfl rfl rfl ?_
  refine z_objInit K q1681 (by omega) (Nat.le_of_ble_eq_true rfl) dX16_init_1 ?_
  refine z_aload_n K dX16_init_4 rfl rfl rfl ?_
  refine z_aload_n K dX16_init_5 rfl rfl rfl ?_
  refine z_putE K fd_X16_9_15 (by first | exact ⟨_, rfl, Or.inl rfl⟩ | exact ⟨_, rfl, Or.inr ⟨rfl, rfl, rfl⟩⟩) (hC) (by omega) (Nat.le_of_ble_eq_true rfl) (zf_r) dX16_init_6 (rfl) ?_
  exact z_vret K (by omega) (by omega) (⟨rfl, rfl⟩) dX16_init_9
theorem row3_0 {a b c : Int} : row3 a b c 0 = a := rfl
theorem row3_1 {a b c : Int} : row3 a b c 1 = b := rfl
theorem row3_2 {a b c : Int} : row3 a b c 2 = c := rfl
theorem x16_c3 (hb : 1000 ≤ b) (hC : sH b u g C = some (oCr b)) (hT : sH b u g T = some (aI 3 (row3 m d f))) (hA : WfA (u 0)) (hO : WfO (u 0)) (hAm : Am g) (hj : 0 ≤ j ∧ j < u 0 0) (hi : 0 ≤ i ∧ i ≤ 1000) (hm : 0 ≤ m ∧ m ≤ 9) (hd : 0 ≤ d ∧ d ≤ 999) (hf : 0 ≤ f ∧ f ≤ 9) (hN : sH b u g N = none) (N8 : 1000 ≤ N) :
    zMet yX16_create_3 (ws_ yX16_create_3 cX16_create_3 5 none) 9 [.ref C, .int (iI j), .int (iI i), .ref T] (sH b u g) (fun z h' => (opOk (u 0) j m d f ∧ z = .inl none ∧ h' = sH b (wNO u j.toNat m.toNat d f) g) ∨ (¬ opOk (u 0) j m d f ∧ z = .inr N ∧ h' = zup (sH b u g) N (f7 (sH b u g) (.ref N) (100 + i)))) 3 50 := by
  have k1 := x1_inG (h := sH b u g) (x := m) (a := 0) (b := 3) (by omega) (by omega) (by omega)
  have k2 := x1_inG (h := sH b u g) (x := d) (a := 1) (b := 30) (by omega) (by omega) (by omega)
  have k3 := x1_inG (h := sH b u g) (x := f) (a := 0) (b := 2) (by omega) (by omega) (by omega)
  have k4 := x2_canAdd (b := b) (g := g) (m := m) hA hj (by omega)
  have hAm2 : Am (sH b u g) := hAm.sh hb
  have k5 := x8_init (h := zup (sH b u g) N (.inr (7, [.null, .null, .null, .null, .null, .int 0, .int 0]))) (q := N) (k := 100 + i) thr_7 thfd_7 thc_7 (by decide) (hAm2.up N8) (zup_at _ _ _) N8
  rw [thL_up N8, zup_zup] at k5
  generalize hQ : (fun (z : zO) (h' : zH) => (opOk (u 0) j m d f ∧ z = .inl none ∧ h' = sH b (wNO u j.toNat m.toNat d f) g) ∨ (¬ opOk (u 0) j m d f ∧ z = .inr N ∧ h' = zup (sH b u g) N (f7 (sH b u g) (.ref N) (100 + i)))) = Q
  have hY : opOk (u 0) j m d f → Q (.inl none) (sH b (wNO u j.toNat m.toNat d f) g) := fun q => by rw [← hQ]; exact Or.inl ⟨q, rfl, rfl⟩
  have hX : ¬ opOk (u 0) j m d f → Q (.inr N) (zup (sH b u g) N (f7 (sH b u g) (.ref N) (100 + i))) := fun q => by rw [← hQ]; exact Or.inr ⟨q, rfl, rfl⟩
  clear hQ
  have hnC : C ≠ N := fun e => by rw [e, hN] at hC; cases hC
  have hl := (hA.1.2 j hj.1 hj.2).2.2.2
  refine zMet.of (by decide) (Nat.le_of_ble_eq_true rfl) fun X K => ?_
  have at60 : ¬ opOk (u 0) j m d f → ∀ env, zsub env [(0, .ref C), (1, .int (iI j)), (2, .int (iI i)), (3, .ref T)] → zW X Q (sH b u g) 0 0 60 env [] := by
    intro hno env he
    refine zW.cut he ?_
    refine z_new K (N) nw_X16_25 hN (by omega) (by omega) (by omega) dX16_create_3_60 ?_
    refine z_dup K dX16_create_3_63 rfl ?_
    refine j_bipush K dX16_create_3_64 (by decide +kernel) ?_
    refine z_iload_n K dX16_create_3_66 rfl rfl ?_
    refine j_iadd K dX16_create_3_67 ?_
    refine z_cI (fs := []) K (k5) cI_X16_27 rfl rfl (by omega) (by omega) (by omega) (Nat.le_of_ble_eq_true rfl) dX16_create_3_68 zvX (zvK ?_)
    refine z_athrow K (zup_at _ _ _) rfl dX16_create_3_71 ?_
    exact z_out K rfl (by omega) (by omega) (hX hno)
  have at46 : (0 ≤ m ∧ m ≤ 3) → (1 ≤ d ∧ d ≤ 30) → (0 ≤ f ∧ f ≤ 2) → ∀ env, zsub env [(0, .ref C), (1, .int (iI j)), (2, .int (iI i)), (3, .ref T)] → zW X Q (sH b u g) 0 0 46 env [] := by
    intro hm2 hd2 hf2 env he
    refine zW.cut he ?_
    by_cases hc : opOk (u 0) j m d f
    · have hL4 : sLen (u 0) j < 4 := by have := hc.2.2.1; omega
      have r1 := room_op hA hj hL4
      have r2 := room_on hA hO hj hm2 hc.no
      have hk9 := hA.2.1.1
      have hn9 := (hO m hm2.1 hm2.2).1
      have hr9 := (hO m hm2.1 hm2.2).2.1
      have k6 := x2_addOperation (b := b) (g := g) (u := u) (j := j.toNat) (m := m.toNat) (k := (u 0 1).toNat) (n := (sOn (u 0) m).toNat) (L := (sLen (u 0) j).toNat) (d := d) (f := f) hb hAm hA.1 (by omega) (by rw [show 17 + j.toNat = (17 + j).toNat by omega]; unfold sLen at hl ⊢; omega) (by rw [show 179 + m.toNat = (179 + m).toNat by omega]; unfold sOn at hn9 ⊢; omega) (by omega) (by omega) (by omega) (by omega) (by omega) (fun p hp => by
        have := (hr9 p (by omega) (by omega)).1
        unfold sOr at this
        rw [show 183 + 5 * m.toNat + p = (183 + 5 * m + p).toNat by omega]
        omega)
      rw [show ((j.toNat : Nat) : Int) = j by omega, show ((m.toNat : Nat) : Int) = m by omega] at k6
      rw [bP_t ⟨hc.2.2.1, bP_n hc.2.2.2⟩] at k4
      refine z_aload_n K dX16_create_3_46 rfl rfl rfl ?_
      refine z_get K fd_X16_9_15 (hC) rfl dX16_create_3_47 ?_
      refine z_iload_n K dX16_create_3_50 rfl rfl ?_
      refine z_aload_n K dX16_create_3_51 rfl rfl rfl ?_
      refine j_iconst K dX16_create_3_52 ?_
      refine j_ild K (hT) (by omega) (by omega) dX16_create_3_53 ?_
      rw [show row3 m d f (0 : Int).toNat = m from rfl]
      refine z_callV K (k4) cV_X16_19_X2 (sH_shop) rfl rfl rfl (by omega) (by omega) (by omega) (Nat.le_of_ble_eq_true rfl) dX16_create_3_54 zrX (zrK ?_)
      refine j_if_ne (tgt := 72) K dX16_create_3_57 rfl (by omega) (fun c_57 => ?_) (fun c_57 => ?_)
      · refine z_aload_n K dX16_create_3_72 rfl rfl rfl ?_
        refine z_get K fd_X16_9_15 (hC) rfl dX16_create_3_73 ?_
        refine z_iload_n K dX16_create_3_76 rfl rfl ?_
        refine z_aload_n K dX16_create_3_77 rfl rfl rfl ?_
        refine j_iconst K dX16_create_3_78 ?_
        refine j_ild K (hT) (by omega) (by omega) dX16_create_3_79 ?_
        refine z_aload_n K dX16_create_3_80 rfl rfl rfl ?_
        refine j_iconst K dX16_create_3_81 ?_
        refine j_ild K (hT) (by omega) (by omega) dX16_create_3_82 ?_
        refine z_aload_n K dX16_create_3_83 rfl rfl rfl ?_
        refine j_iconst K dX16_create_3_84 ?_
        refine j_ild K (hT) (by omega) (by omega) dX16_create_3_85 ?_
        rw [show row3 m d f (0 : Int).toNat = m from rfl, show row3 m d f (1 : Int).toNat = d from rfl, show row3 m d f (2 : Int).toNat = f from rfl]
        refine z_callV K (k6) cV_X16_30_X2 (sH_shop) rfl rfl rfl (by omega) (by omega) (by omega) (Nat.le_of_ble_eq_true rfl) dX16_create_3_86 zrX (zrK ?_)
        refine z_pop K dX16_create_3_89 rfl ?_
        exact z_vret K (by omega) (by omega) (hY hc) dX16_create_3_90
      · exact absurd c_57 (by decide)
    · rw [bP_f (fun q => hc ⟨hm2, ⟨hd2, hf2⟩, q.1, bP_f q.2⟩)] at k4
      have nx := at60 hc
      refine z_aload_n K dX16_create_3_46 rfl rfl rfl ?_
      refine z_get K fd_X16_9_15 (hC) rfl dX16_create_3_47 ?_
      refine z_iload_n K dX16_create_3_50 rfl rfl ?_
      refine z_aload_n K dX16_create_3_51 rfl rfl rfl ?_
      refine j_iconst K dX16_create_3_52 ?_
      refine j_ild K (hT) (by omega) (by omega) dX16_create_3_53 ?_
      rw [show row3 m d f (0 : Int).toNat = m from rfl]
      refine z_callV K (k4) cV_X16_19_X2 (sH_shop) rfl rfl rfl (by omega) (by omega) (by omega) (Nat.le_of_ble_eq_true rfl) dX16_create_3_54 zrX (zrK ?_)
      refine j_if_ne (tgt := 72) K dX16_create_3_57 rfl (by omega) (fun c_57 => ?_) (fun c_57 => ?_)
      · exact absurd rfl c_57
      · exact nx _ ⟨rfl, rfl, rfl, rfl, trivial⟩
  refine z_aload_n K dX16_create_3_0 rfl rfl rfl ?_
  refine j_iconst K dX16_create_3_1 ?_
  refine j_ild K (hT) (by omega) (by omega) dX16_create_3_2 ?_
  refine j_iconst K dX16_create_3_3 ?_
  refine j_iconst K dX16_create_3_4 ?_
  rw [show row3 m d f (0 : Int).toNat = m from rfl]
  refine z_cSN (fs := []) K (k1) cS_X16_15 rfl rfl (by omega) (by omega) (by omega) (Nat.le_of_ble_eq_true rfl) dX16_create_3_5 zrX (zrK ?_)
  refine j_if_eq (tgt := 38) K dX16_create_3_8 rfl (b01r _) (fun c_8 => ?_) (fun c_8 => ?_)
  · have hno : ¬ opOk (u 0) j m d f := fun q => bI_y c_8 q.1
    refine j_iconst K dX16_create_3_38 ?_
    refine z_istore K dX16_create_3_39 (by decide) rfl ?_
    refine z_iload K dX16_create_3_41 rfl ?_
    refine j_if_eq (tgt := 60) K dX16_create_3_43 rfl (by omega) (fun c_43 => ?_) (fun c_43 => ?_)
    · first | omega | exact at60 hno _ ⟨rfl, rfl, rfl, rfl, trivial⟩
    · first | omega | exact at46 (bI_n c_8) (bI_n c_20) (bI_n c_31) _ ⟨rfl, rfl, rfl, rfl, trivial⟩
  · refine z_aload_n K dX16_create_3_11 rfl rfl rfl ?_
    refine j_iconst K dX16_create_3_12 ?_
    refine j_ild K (hT) (by omega) (by omega) dX16_create_3_13 ?_
    refine j_iconst K dX16_create_3_14 ?_
    refine j_bipush K dX16_create_3_15 (by decide +kernel) ?_
    rw [show row3 m d f (1 : Int).toNat = d from rfl]
    refine z_cSN (fs := []) K (k2) cS_X16_15 rfl rfl (by omega) (by omega) (by omega) (Nat.le_of_ble_eq_true rfl) dX16_create_3_17 zrX (zrK ?_)
    refine j_if_eq (tgt := 38) K dX16_create_3_20 rfl (b01r _) (fun c_20 => ?_) (fun c_20 => ?_)
    · have hno : ¬ opOk (u 0) j m d f := fun q => bI_y c_20 q.2.1.1
      refine j_iconst K dX16_create_3_38 ?_
      refine z_istore K dX16_create_3_39 (by decide) rfl ?_
      refine z_iload K dX16_create_3_41 rfl ?_
      refine j_if_eq (tgt := 60) K dX16_create_3_43 rfl (by omega) (fun c_43 => ?_) (fun c_43 => ?_)
      · first | omega | exact at60 hno _ ⟨rfl, rfl, rfl, rfl, trivial⟩
      · first | omega | exact at46 (bI_n c_8) (bI_n c_20) (bI_n c_31) _ ⟨rfl, rfl, rfl, rfl, trivial⟩
    · refine z_aload_n K dX16_create_3_23 rfl rfl rfl ?_
      refine j_iconst K dX16_create_3_24 ?_
      refine j_ild K (hT) (by omega) (by omega) dX16_create_3_25 ?_
      refine j_iconst K dX16_create_3_26 ?_
      refine j_iconst K dX16_create_3_27 ?_
      rw [show row3 m d f (2 : Int).toNat = f from rfl]
      refine z_cSN (fs := []) K (k3) cS_X16_15 rfl rfl (by omega) (by omega) (by omega) (Nat.le_of_ble_eq_true rfl) dX16_create_3_28 zrX (zrK ?_)
      refine j_if_eq (tgt := 38) K dX16_create_3_31 rfl (b01r _) (fun c_31 => ?_) (fun c_31 => ?_)
      · have hno : ¬ opOk (u 0) j m d f := fun q => bI_y c_31 q.2.1.2
        refine j_iconst K dX16_create_3_38 ?_
        refine z_istore K dX16_create_3_39 (by decide) rfl ?_
        refine z_iload K dX16_create_3_41 rfl ?_
        refine j_if_eq (tgt := 60) K dX16_create_3_43 rfl (by omega) (fun c_43 => ?_) (fun c_43 => ?_)
        · first | omega | exact at60 hno _ ⟨rfl, rfl, rfl, rfl, trivial⟩
        · first | omega | exact at46 (bI_n c_8) (bI_n c_20) (bI_n c_31) _ ⟨rfl, rfl, rfl, rfl, trivial⟩
      · refine j_iconst K dX16_create_3_34 ?_
        refine z_goto (tgt := 39) K dX16_create_3_35 rfl ?_
        refine z_istore K dX16_create_3_39 (by decide) rfl ?_
        refine z_iload K dX16_create_3_41 rfl ?_
        refine j_if_eq (tgt := 60) K dX16_create_3_43 rfl (by omega) (fun c_43 => ?_) (fun c_43 => ?_)
        · first | omega | exact at60 hno _ ⟨rfl, rfl, rfl, rfl, trivial⟩
        · first | omega | exact at46 (bI_n c_8) (bI_n c_20) (bI_n c_31) _ ⟨rfl, rfl, rfl, rfl, trivial⟩
end XCr

