/-! ===== the law: its loop, its beginning ===== -/
section LD
variable {X : zX} {Q : zO → zH → Prop} {L : Nat} {xs : Nat → Int} {h : zH} {w : tW} {i k n : Nat}
theorem law_sw (K : zK x cL_law 9 (some .boolean) [] 20 694190 6900895 X) (hz : zScr X L xs) (hI : LI L xs h w) (hx : ∀ j : Nat, j < L → i32 (xs j)) (hi : i + 5 ≤ L) (hL : L ≤ 320) (hk : k + 3000 ≤ 694190) (hn : n + 34000 ≤ 6900895) (nx : lNx X Q L xs i k n) (y : Int32) : ∀ env, zsub env (lEnv i) → zW X Q h k n 44 env [.int y] := by
  intro env he
  rcases (by omega : y.toInt = 0 ∨ y.toInt = 1 ∨ y.toInt = 2 ∨ y.toInt = 3 ∨ y.toInt = 4 ∨ y.toInt = 5 ∨ y.toInt = 6 ∨ y.toInt = 7 ∨ y.toInt = 8 ∨ y.toInt = 9 ∨ y.toInt = 10 ∨ y.toInt = 11 ∨ y.toInt = 12 ∨ y.toInt = 13 ∨ y.toInt = 14 ∨ y.toInt = 15 ∨ y.toInt = 16 ∨ y.toInt = 17 ∨ y.toInt = 18 ∨ y.toInt = 19 ∨ y.toInt = 20 ∨ y.toInt = 21 ∨ y.toInt = 22 ∨ y.toInt = 23 ∨ y.toInt = 24 ∨ y.toInt = 25 ∨ y.toInt = 26 ∨ y.toInt = 27 ∨ y.toInt = 28 ∨ y.toInt = 29 ∨ y.toInt = 30 ∨ y.toInt = 31 ∨ y.toInt = 32 ∨ y.toInt = 33 ∨ y.toInt = 34 ∨ y.toInt = 35 ∨ y.toInt = 36 ∨ (y.toInt < 0 ∨ 36 < y.toInt)) with e | e | e | e | e | e | e | e | e | e | e | e | e | e | e | e | e | e | e | e | e | e | e | e | e | e | e | e | e | e | e | e | e | e | e | e | e | e
  · exact z_tableIn (off := 164) (tgt := 208) K dL_law_44 (by omega) (by omega) (by rw [e]; rfl) rfl (lc_0 K hz hI hx hi hL hk hn nx env he)
  · exact z_tableIn (off := 244) (tgt := 288) K dL_law_44 (by omega) (by omega) (by rw [e]; rfl) rfl (lc_1 K hz hI hx hi hL hk hn nx env he)
  · exact z_tableIn (off := 336) (tgt := 380) K dL_law_44 (by omega) (by omega) (by rw [e]; rfl) rfl (lc_2 K hz hI hx hi hL hk hn nx env he)
  · exact z_tableIn (off := 416) (tgt := 460) K dL_law_44 (by omega) (by omega) (by rw [e]; rfl) rfl (lc_3 K hz hI hx hi hL hk hn nx env he)
  · exact z_tableIn (off := 484) (tgt := 528) K dL_law_44 (by omega) (by omega) (by rw [e]; rfl) rfl (lc_4 K hz hI hx hi hL hk hn nx env he)
  · exact z_tableIn (off := 564) (tgt := 608) K dL_law_44 (by omega) (by omega) (by rw [e]; rfl) rfl (lc_5 K hz hI hx hi hL hk hn nx env he)
  · exact z_tableIn (off := 644) (tgt := 688) K dL_law_44 (by omega) (by omega) (by rw [e]; rfl) rfl (lc_6 K hz hI hx hi hL hk hn nx env he)
  · exact z_tableIn (off := 700) (tgt := 744) K dL_law_44 (by omega) (by omega) (by rw [e]; rfl) rfl (lc_7 K hz hI hx hi hL hk hn nx env he)
  · exact z_tableIn (off := 756) (tgt := 800) K dL_law_44 (by omega) (by omega) (by rw [e]; rfl) rfl (lc_8 K hz hI hx hi hL hk hn nx env he)
  · exact z_tableIn (off := 824) (tgt := 868) K dL_law_44 (by omega) (by omega) (by rw [e]; rfl) rfl (lc_9 K hz hI hx hi hL hk hn nx env he)
  · exact z_tableIn (off := 892) (tgt := 936) K dL_law_44 (by omega) (by omega) (by rw [e]; rfl) rfl (lc_10 K hz hI hx hi hL hk hn nx env he)
  · exact z_tableIn (off := 960) (tgt := 1004) K dL_law_44 (by omega) (by omega) (by rw [e]; rfl) rfl (lc_11 K hz hI hx hi hL hk hn nx env he)
  · exact z_tableIn (off := 973) (tgt := 1017) K dL_law_44 (by omega) (by omega) (by rw [e]; rfl) rfl (lc_12 K hz hI hx hi hL hk hn nx env he)
  · exact z_tableIn (off := 1029) (tgt := 1073) K dL_law_44 (by omega) (by omega) (by rw [e]; rfl) rfl (lc_13 K hz hI hx hi hL hk hn nx env he)
  · exact z_tableIn (off := 1085) (tgt := 1129) K dL_law_44 (by omega) (by omega) (by rw [e]; rfl) rfl (lc_14 K hz hI hx hi hL hk hn nx env he)
  · exact z_tableIn (off := 1141) (tgt := 1185) K dL_law_44 (by omega) (by omega) (by rw [e]; rfl) rfl (lc_15 K hz hI hx hi hL hk hn nx env he)
  · exact z_tableIn (off := 1218) (tgt := 1262) K dL_law_44 (by omega) (by omega) (by rw [e]; rfl) rfl (lc_16 K hz hI hx hi hL hk hn nx env he)
  · exact z_tableIn (off := 1231) (tgt := 1275) K dL_law_44 (by omega) (by omega) (by rw [e]; rfl) rfl (lc_17 K hz hI hx hi hL hk hn nx env he)
  · exact z_tableIn (off := 1287) (tgt := 1331) K dL_law_44 (by omega) (by omega) (by rw [e]; rfl) rfl (lc_18 K hz hI hx hi hL hk hn nx env he)
  · exact z_tableIn (off := 1300) (tgt := 1344) K dL_law_44 (by omega) (by omega) (by rw [e]; rfl) rfl (lc_19 K hz hI hx hi hL hk hn nx env he)
  · exact z_tableIn (off := 1356) (tgt := 1400) K dL_law_44 (by omega) (by omega) (by rw [e]; rfl) rfl (lc_20 K hz hI hx hi hL hk hn nx env he)
  · exact z_tableIn (off := 1424) (tgt := 1468) K dL_law_44 (by omega) (by omega) (by rw [e]; rfl) rfl (lc_21 K hz hI hx hi hL hk hn nx env he)
  · exact z_tableIn (off := 1492) (tgt := 1536) K dL_law_44 (by omega) (by omega) (by rw [e]; rfl) rfl (lc_22 K hz hI hx hi hL hk hn nx env he)
  · exact z_tableIn (off := 1548) (tgt := 1592) K dL_law_44 (by omega) (by omega) (by rw [e]; rfl) rfl (lc_23 K hz hI hx hi hL hk hn nx env he)
  · exact z_tableIn (off := 1616) (tgt := 1660) K dL_law_44 (by omega) (by omega) (by rw [e]; rfl) rfl (lc_24 K hz hI hx hi hL hk hn nx env he)
  · exact z_tableIn (off := 1672) (tgt := 1716) K dL_law_44 (by omega) (by omega) (by rw [e]; rfl) rfl (lc_25 K hz hI hx hi hL hk hn nx env he)
  · exact z_tableIn (off := 1728) (tgt := 1772) K dL_law_44 (by omega) (by omega) (by rw [e]; rfl) rfl (lc_26 K hz hI hx hi hL hk hn nx env he)
  · exact z_tableIn (off := 1741) (tgt := 1785) K dL_law_44 (by omega) (by omega) (by rw [e]; rfl) rfl (lc_27 K hz hI hx hi hL hk hn nx env he)
  · exact z_tableIn (off := 1797) (tgt := 1841) K dL_law_44 (by omega) (by omega) (by rw [e]; rfl) rfl (lc_28 K hz hI hx hi hL hk hn nx env he)
  · exact z_tableIn (off := 1865) (tgt := 1909) K dL_law_44 (by omega) (by omega) (by rw [e]; rfl) rfl (lc_29 K hz hI hx hi hL hk hn nx env he)
  · exact z_tableIn (off := 1878) (tgt := 1922) K dL_law_44 (by omega) (by omega) (by rw [e]; rfl) rfl (lc_30 K hz hI hx hi hL hk hn nx env he)
  · exact z_tableIn (off := 1934) (tgt := 1978) K dL_law_44 (by omega) (by omega) (by rw [e]; rfl) rfl (lc_31 K hz hI hx hi hL hk hn nx env he)
  · exact z_tableIn (off := 1947) (tgt := 1991) K dL_law_44 (by omega) (by omega) (by rw [e]; rfl) rfl (lc_32 K hz hI hx hi hL hk hn nx env he)
  · exact z_tableIn (off := 1985) (tgt := 2029) K dL_law_44 (by omega) (by omega) (by rw [e]; rfl) rfl (lc_33 K hz hI hx hi hL hk hn nx env he)
  · exact z_tableIn (off := 2029) (tgt := 2073) K dL_law_44 (by omega) (by omega) (by rw [e]; rfl) rfl (lc_34 K hz hI hx hi hL hk hn nx env he)
  · exact z_tableIn (off := 2085) (tgt := 2129) K dL_law_44 (by omega) (by omega) (by rw [e]; rfl) rfl (lc_35 K hz hI hx hi hL hk hn nx env he)
  · exact z_tableIn (off := 2096) (tgt := 2140) K dL_law_44 (by omega) (by omega) (by rw [e]; rfl) rfl (lc_36 K hz hI hx hi hL hk hn nx env he)
  · exact z_tableOut (tgt := 2164) K dL_law_44 e rfl (zW.widen (by omega) (by omega) (nx h w hI env he))
theorem law_loop (K : zK x cL_law 9 (some .boolean) [] 20 694190 6900895 X) (hz : zScr X L xs) (hx : ∀ j : Nat, j < L → i32 (xs j)) (hL : L ≤ 320) (hQ : ∀ h, Q (.inl (some (.int (iI 1)))) h) : ∀ (r j : Nat), j + r = 65 → 5 * j ≤ L ∨ j = 0 → ∀ h w, LI L xs h w → ∀ env, zsub env (lEnv (5 * j)) → zW X Q h (1000 + 3000 * j) (10000 + 34000 * j) 28 env [] := by
  intro r
  induction r with
  | zero => intro j hj h5; omega
  | succ r ih =>
    intro j hj h5 h w hI env he
    refine zW.cut he ?_
    have nx : 5 * j + 5 ≤ L → lNx X Q L xs (5 * j) (1000 + 3000 * j) (10000 + 34000 * j) := fun hi h' w' hI' env he => by
      refine zW.cut he ?_
      have ih := ih (j + 1) (by omega) (Or.inl (by omega)) h' w' hI'
      have e5 : ((5 * j : Nat) : Int) + 5 = ((5 * (j + 1) : Nat) : Int) := by omega
      refine j_iinc K dL_law_2164 rfl (by decide) rfl ?_
      refine z_goto (tgt := 28) K dL_law_2167 rfl ?_
      rw [e5]
      exact zW.widen (by omega) (by omega) (ih _ ⟨rfl, rfl, rfl, rfl, rfl, rfl, trivial⟩)
    have fin := hQ h
    refine z_iload K dL_law_28 rfl ?_
    refine z_aload_n K dL_law_30 rfl rfl rfl ?_
    refine s_len K hz dL_law_31 ?_
    refine j_iconst K dL_law_32 ?_
    refine j_isub K dL_law_33 ?_
    refine j_icmp_gt (tgt := 2170) K dL_law_34 rfl (by omega) (by omega) (fun c_34 => ?_) (fun c_34 => ?_)
    · refine j_iconst K dL_law_2170 ?_
      exact z_zret K (iI_b (Or.inr rfl)) (by omega) (by omega) (fin) dL_law_2171
    · refine z_aload_n K dL_law_37 rfl rfl rfl ?_
      refine z_iload K dL_law_38 rfl ?_
      refine s_ld K (hz) (by omega) (by omega) dL_law_40 ?_
      refine j_bipush K dL_law_41 (by decide +kernel) ?_
      refine z_iand K dL_law_43 ?_
      exact law_sw K hz hI hx (by omega) hL (by omega) (by omega) (nx (by omega)) _ _ ⟨rfl, rfl, rfl, rfl, rfl, rfl, trivial⟩
theorem law_all {g0 : zH} (K : zK x cL_law 9 (some .boolean) [] 20 694190 6900895 X) (hz : zScr X L xs) (hx : ∀ j : Nat, j < L → i32 (xs j)) (hL : L ≤ 320) (hQ : ∀ h, Q (.inl (some (.int (iI 1)))) h) (hA : Am g0) (hT : zTop g0 1000) : zW X Q g0 0 0 0 [(0, .ref 8)] [] := by
  have ki := x1_init hA hT
  have lo : ∀ m, 1000 ≤ m → m < 1040 → sH 1100 uNew (gNew g0) m = none := fun m m1 m2 => (sH_out (by omega)).trans ((zup_ne (by omega)).trans ((zup_ne (by omega)).trans ((zup_ne (by omega)).trans (hT m m1))))
  have hC0 : CX (sH 1100 uNew (gNew g0)) tNew := ⟨1100, 1174, uNew, gNew g0, rfl, CG.new hA hT⟩
  generalize hH0 : sH 1100 uNew (gNew g0) = h0 at *
  have kt := tw_init (h := zup h0 1000 (.inr (0, fsL [] 0))) (fun f hf => (zup_ne (by omega)).trans (lo _ (by omega) (by omega))) (zup_at _ _ _)
  rw [ov_new (fun f hf => (zup_ne (by omega)).trans (lo _ (by omega) (by omega)))] at kt
  have e0 : ov tNew (zup h0 1000 (.inr (0, fsL [] 0))) = ov tNew h0 := by
    funext m
    by_cases q : 1000 ≤ m ∧ m < 1038
    · rw [ov_in q.1 q.2, ov_in q.1 q.2]
    · rw [ov_out (by omega), ov_out (by omega), zup_ne (by omega)]
  rw [e0] at kt
  have lp := fun h hI => law_loop K hz hx hL hQ 65 0 (by omega) (Or.inr rfl) h tNew hI
  have fin : ∀ (f : Nat → Int64) (f2 : Nat → UInt64), LI L xs (zup (zup (ov tNew h0) 1038 (.inl (4, 1, .inr (.inl f)))) 1039 (.inl (5, 1, .inr (.inr (.inr (.inl f2)))))) tNew := fun f f2 =>
    ⟨hC0.lo (fun m fs m1 m2 e => by rw [lo m m1 m2] at e; cases e) (fun m q => (zup_ne (by omega)).trans ((zup_ne (by omega)).trans (ov_out (by omega)))), RJ.new, ⟨fun m m1 m2 => (zup_ne (by omega)).trans ((zup_ne (by omega)).trans (ov_in m1 m2)), ⟨f, (zup_ne (by omega)).trans (zup_at _ _ _)⟩, ⟨f2, zup_at _ _ _⟩⟩⟩
  have f1 := lo 1000 (by omega) (by omega)
  have f38 : ov tNew h0 1038 = none := (ov_out (by omega)).trans (lo _ (by omega) (by omega))
  have f39 : ∀ c, zup (ov tNew h0) 1038 c 1039 = none := fun c => (zup_ne (by omega)).trans ((ov_out (by omega)).trans (lo _ (by omega) (by omega)))
  have f40 := hT 1040 (by omega)
  refine z_new K (1040) nw_X0_8 f40 (by omega) (by omega) (by omega) dL_law_0 ?_
  refine z_dup K dL_law_3 rfl ?_
  refine z_cI (fs := []) K (ki) cI_X0_114 rfl rfl (by omega) (by omega) (by omega) (Nat.le_of_ble_eq_true rfl) dL_law_4 zvX (zvK ?_)
  refine z_astore_n K dL_law_7 rfl rfl (by decide) rfl ?_
  refine z_new K (1000) nw_X0_115 f1 (by omega) (by omega) (by omega) dL_law_8 ?_
  refine z_dup K dL_law_11 rfl ?_
  refine z_cI (fs := []) K (kt) cI_X0_117 rfl rfl (by omega) (by omega) (by omega) (Nat.le_of_ble_eq_true rfl) dL_law_12 zvX (zvK ?_)
  refine z_astore_n K dL_law_15 rfl rfl (by decide) rfl ?_
  refine j_iconst K dL_law_16 ?_
  refine z_newl K (1038) (by omega) (by omega) f38 (by omega) (by omega) (by omega) dL_law_17 ?_
  refine z_astore_n K dL_law_19 rfl rfl (by decide) rfl ?_
  refine j_iconst K dL_law_20 ?_
  refine z_newd K (1039) (by omega) (by omega) (f39 _) (by omega) (by omega) (by omega) dL_law_21 ?_
  refine z_astore K dL_law_23 rfl (by decide) rfl ?_
  refine j_iconst K dL_law_25 ?_
  refine z_istore K dL_law_26 (by decide) rfl ?_
  exact zW.widen (by omega) (by omega) (lp _ (fin _ _) _ ⟨rfl, rfl, rfl, rfl, rfl, rfl, trivial⟩)
end LD

