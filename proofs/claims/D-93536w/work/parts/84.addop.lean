/-! ===== the component: a new operation ===== -/
section XAo
variable {b : Nat} {u : tW} {g : zH} {N : Nat}
theorem x6_init {h : zH} {o : Nat} {n j i m d f : Int} (ho : h o = some (.inr (5, [.int 0, .int 0, .int 0, .int 0, .int 0, .int 0]))) (h8 : 1000 ≤ o) : zMet yX6_init (ws_ yX6_init cX6_init 7 none) 2 [.ref o, .int (iI n), .int (iI j), .int (iI i), .int (iI m), .int (iI d), .int (iI f)] h (zVd (zup h o (.inr (5, [.int (iI n), .int (iI j), .int (iI m), .int (iI f), .int (iI i), .int (iI d)])))) 0 0 := by
  refine zMet.of (by decide) (Nat.le_of_ble_eq_true rfl) fun X K => ?_
  refine z_aload_n K dX6_init_0 rfl rfl rfl ?_
  refine z_objInit K q604 (by omega) (Nat.le_of_ble_eq_true rfl) dX6_init_1 ?_
  refine z_aload_n K dX6_init_4 rfl rfl rfl ?_
  refine z_iload_n K dX6_init_5 rfl rfl ?_
  refine z_putE K fd_X6_7_5 (by first | exact ⟨_, rfl, Or.inl rfl⟩ | exact ⟨_, rfl, Or.inr ⟨rfl, rfl, rfl⟩⟩) ((by first | exact ho | exact zup_at _ _ _)) (by omega) (Nat.le_of_ble_eq_true rfl) (zf_i) dX6_init_6 (rfl) ?_
  refine z_aload_n K dX6_init_9 rfl rfl rfl ?_
  refine z_iload_n K dX6_init_10 rfl rfl ?_
  refine z_putE K fd_X6_13_5 (by first | exact ⟨_, rfl, Or.inl rfl⟩ | exact ⟨_, rfl, Or.inr ⟨rfl, rfl, rfl⟩⟩) ((by first | exact ho | exact zup_at _ _ _)) (by omega) (Nat.le_of_ble_eq_true rfl) (zf_i) dX6_init_11 (rfl) ?_
  rw [zup_zup]
  refine z_aload_n K dX6_init_14 rfl rfl rfl ?_
  refine z_iload_n K dX6_init_15 rfl rfl ?_
  refine z_putE K fd_X6_16_5 (by first | exact ⟨_, rfl, Or.inl rfl⟩ | exact ⟨_, rfl, Or.inr ⟨rfl, rfl, rfl⟩⟩) ((by first | exact ho | exact zup_at _ _ _)) (by omega) (Nat.le_of_ble_eq_true rfl) (zf_i) dX6_init_16 (rfl) ?_
  rw [zup_zup]
  refine z_aload_n K dX6_init_19 rfl rfl rfl ?_
  refine z_iload K dX6_init_20 rfl ?_
  refine z_putE K fd_X6_19_5 (by first | exact ⟨_, rfl, Or.inl rfl⟩ | exact ⟨_, rfl, Or.inr ⟨rfl, rfl, rfl⟩⟩) ((by first | exact ho | exact zup_at _ _ _)) (by omega) (Nat.le_of_ble_eq_true rfl) (zf_i) dX6_init_22 (rfl) ?_
  rw [zup_zup]
  refine z_aload_n K dX6_init_25 rfl rfl rfl ?_
  refine z_iload K dX6_init_26 rfl ?_
  refine z_putE K fd_X6_22_5 (by first | exact ⟨_, rfl, Or.inl rfl⟩ | exact ⟨_, rfl, Or.inr ⟨rfl, rfl, rfl⟩⟩) ((by first | exact ho | exact zup_at _ _ _)) (by omega) (Nat.le_of_ble_eq_true rfl) (zf_i) dX6_init_28 (rfl) ?_
  rw [zup_zup]
  refine z_aload_n K dX6_init_31 rfl rfl rfl ?_
  refine z_iload K dX6_init_32 rfl ?_
  refine z_putE K fd_X6_25_5 (by first | exact ⟨_, rfl, Or.inl rfl⟩ | exact ⟨_, rfl, Or.inr ⟨rfl, rfl, rfl⟩⟩) ((by first | exact ho | exact zup_at _ _ _)) (by omega) (Nat.le_of_ble_eq_true rfl) (zf_i) dX6_init_34 (rfl) ?_
  rw [zup_zup]
  exact z_vret K (by omega) (by omega) (⟨rfl, rfl⟩) dX6_init_37
theorem opsAdd {H : zH} {k : Nat} {c : Int} {f1 : Nat → Nat} {c7 : zC} (hb : 1000 ≤ b) (hL : H (b + 3) = some (oL c (if k = 0 then 1 else b + oAr k) k)) (ha : k ≠ 0 → H (b + oAr k) = some (aR (oCp k) k fun q => b + 52 + q)) (hf : k = 0 ∨ k = 10 ∨ k = 15 → H (b + oAr (k + 1)) = none) (h1 : H 1 = some (aR 0 0 f1)) (h7 : H 7 = some c7) (hob : ∀ i, i ≤ k → zOb H (b + 52 + i)) (k20 : k < 20) :
    zMet yJ2_add (ws_ yJ2_add cJ2_add 2 (some .boolean)) 7 [.ref (b + 3), .ref (b + 52 + k)] H (zRet (.int (iI 1)) (zup (zup H (b + oAr (k + 1)) (aR (oCp (k + 1)) (k + 1) fun q => b + 52 + q)) (b + 3) (oL (c + 1) (b + oAr (k + 1)) ((k : Int) + 1)))) 1 22 := by
  have hx := hob k (Nat.le_refl k)
  have ec : ∀ M, aR M (k + 1) (fun i => if i = k then b + 52 + k else b + 52 + i) = aR M (k + 1) fun q => b + 52 + q := fun M => aR_congr rfl fun i hi => by
    by_cases z : i = k
    · rw [if_pos z, z]
    · rw [if_neg z]
  by_cases z0 : k = 0
  · subst z0
    have h9 := jl_addE (L := b + 3) (nm := b + 4) (x := b + 52 + 0) hL h1 hx (hf (Or.inl rfl)) (by omega) (by omega)
    rw [show aR 10 1 (fun _ => b + 52 + 0) = aR 10 (0 + 1) (fun q => b + 52 + q) from aR_congr rfl fun i hi => by rw [show i = 0 by omega]] at h9
    exact h9
  · rw [if_neg z0] at hL
    have ha := ha z0
    by_cases z1 : k = 10
    · subst z1
      have h9 := jl_addF (L := b + 3) (nm := b + oAr (10 + 1)) (x := b + 52 + 10) hL ha h1 h7 (Or.inl rfl) (fun i hi => hob i (by omega)) hx (hf (by omega)) (by omega) (by unfold oAr; omega) (by unfold oAr; omega)
      rw [ec] at h9
      exact h9
    · by_cases z2 : k = 15
      · subst z2
        have h9 := jl_addF (L := b + 3) (nm := b + oAr (15 + 1)) (x := b + 52 + 15) hL ha h1 h7 (Or.inr rfl) (fun i hi => hob i (by omega)) hx (hf (by omega)) (by omega) (by unfold oAr; omega) (by unfold oAr; omega)
        rw [ec] at h9
        exact h9
      · have e1 : oAr (k + 1) = oAr k := by unfold oAr; rcases (by omega : k < 10 ∨ (10 < k ∧ k < 15) ∨ 15 < k) with z | z | z; rw [if_pos (by omega), if_pos (by omega)]; rw [if_neg (by omega), if_pos (by omega), if_neg (by omega), if_pos (by omega)]; rw [if_neg (by omega), if_neg (by omega), if_neg (by omega), if_neg (by omega)]
        have e2 : oCp (k + 1) = oCp k := by unfold oCp; rcases (by omega : k < 10 ∨ (10 < k ∧ k < 15) ∨ 15 < k) with z | z | z; rw [if_pos (by omega), if_pos (by omega)]; rw [if_neg (by omega), if_pos (by omega), if_neg (by omega), if_pos (by omega)]; rw [if_neg (by omega), if_neg (by omega), if_neg (by omega), if_neg (by omega)]
        have e3 : k < oCp k ∧ oCp k ≤ 22 := by unfold oCp; rcases (by omega : k < 10 ∨ (10 < k ∧ k < 15) ∨ 15 < k) with z | z | z; rw [if_pos (by omega)]; omega; rw [if_neg (by omega), if_pos (by omega)]; omega; rw [if_neg (by omega), if_neg (by omega)]; omega
        have h9 := jl_addA (L := b + 3) (a := b + oAr k) (N := oCp k) (k := k) (x := b + 52 + k) hL ha e3.1 (by omega) hx (by omega) (by omega) 1 22
        rw [ec, ← e1, ← e2] at h9
        exact h9
theorem jopAdd {H : zH} {j L x : Nat} {c : Int} {f f1 : Nat → Nat} (hb : 1000 ≤ b) (hL : H (b + 42 + j) = some (oL c (if L = 0 then 1 else b + 47 + j) L)) (ha : L ≠ 0 → H (b + 47 + j) = some (aR 10 L f)) (hf : L = 0 → H (b + 47 + j) = none) (h1 : H 1 = some (aR 0 0 f1)) (hx : zOb H x) (L4 : L < 4) :
    zMet yJ2_add (ws_ yJ2_add cJ2_add 2 (some .boolean)) 7 [.ref (b + 42 + j), .ref x] H (zRet (.int (iI 1)) (zup (zup H (b + 47 + j) (aR 10 (L + 1) fun q => if q = L then x else f q)) (b + 42 + j) (oL (c + 1) (b + 47 + j) ((L : Int) + 1)))) 1 22 := by
  by_cases z0 : L = 0
  · subst z0
    have h9 := jl_addE (L := b + 42 + j) (nm := b + 47 + j) (x := x) hL h1 hx (hf rfl) (by omega) (by omega)
    rw [show aR 10 1 (fun _ => x) = aR 10 (0 + 1) (fun q => if q = 0 then x else f q) from aR_congr rfl fun i hi => by rw [if_pos (by omega)]] at h9
    exact h9
  · rw [if_neg z0] at hL
    exact jl_addA (L := b + 42 + j) (a := b + 47 + j) hL (ha z0) (by omega) (by omega) hx (by omega) (by omega) 1 22
theorem x2_addOperation {j m k n L : Nat} {d f : Int} (hb : 1000 ≤ b) (hAm : Am g) (hJ : WfJ (u 0)) (hk : u 0 1 = k) (hL : u 0 (17 + j) = L) (hn : u 0 (179 + m) = n) (k20 : k < 20) (L4 : L < 4) (n5 : n < 5) (hm : m < 4) (h0 : (j : Int) < u 0 0) (hr : ∀ p, p < n → -2147483648 ≤ u 0 (183 + 5 * m + p) ∧ u 0 (183 + 5 * m + p) ≤ 2147483647) :
    zMet yX2_addOperation (ws_ yX2_addOperation cX2_addOperation 7 (some .int)) 8 [.ref b, .int (iI j), .int (iI m), .int (iI d), .int (iI f)] (sH b u g) (zRet (.int (iI k)) (sH b (wNO u j m d f) g)) 3 50 := by
  have h05 := hJ.1
  have hj5 : j < 5 := by omega
  obtain ⟨⟨f1, hA1⟩, ⟨c7, hA7⟩, -⟩ := hAm
  have hend := sH_newop (b := b) (u := u) (g := g) (d := d) (f := f) hk hL hn k20 L4 n5 hj5 hm h0 hJ
  have hAr : ∀ k, 4 ≤ oAr k ∧ oAr k ≤ 6 := fun k => by unfold oAr; split <;> (try split) <;> omega
  have hAr1 := hAr (k + 1)
  have hArk := hAr k
  refine zMet.of (by decide) (Nat.le_of_ble_eq_true rfl) fun X K => ?_
  -- the cells that are looked at
  have s3 : sH b u g (b + 3) = some (oL (u 6 1) (if k = 0 then 1 else b + oAr k) k) := by
    rw [sH_in _ (by omega), sC_3, hk]
    unfold oAr
    by_cases z : k = 0
    · rw [if_pos (by omega), if_pos z]
    · rw [if_neg (by omega), if_neg z]
      by_cases z1 : k ≤ 10
      · rw [if_pos (by omega), if_pos z1]
      · rw [if_neg (by omega), if_neg z1]
        by_cases z2 : k ≤ 15
        · rw [if_pos (by omega), if_pos z2]
        · rw [if_neg (by omega), if_neg z2]
  have sA : k ≠ 0 → sH b u g (b + oAr k) = some (aR (oCp k) k fun q => b + 52 + q) := fun z => by
    rw [sH_in _ (by omega)]
    unfold oAr oCp
    by_cases z1 : k ≤ 10
    · rw [if_pos z1, if_pos z1, sC_4, hk, if_neg (by omega), show min ((k : Int)).toNat 10 = k by omega]
    · rw [if_neg z1, if_neg z1]
      by_cases z2 : k ≤ 15
      · rw [if_pos z2, if_pos z2, sC_5, hk, if_neg (by omega), show min ((k : Int)).toNat 15 = k by omega]
      · rw [if_neg z2, if_neg z2, sC_6, hk, if_neg (by omega), show min ((k : Int)).toNat 22 = k by omega]
  have sN : k = 0 ∨ k = 10 ∨ k = 15 → sH b u g (b + oAr (k + 1)) = none := fun z => by
    rw [sH_in _ (by omega)]
    rcases z with rfl | rfl | rfl
    · show sC b u 4 = none
      rw [sC_4, hk]; rfl
    · show sC b u 5 = none
      rw [sC_5, hk]; rfl
    · show sC b u 6 = none
      rw [sC_6, hk]; rfl
  have sop : ∀ i, i < k → zOb (sH b u g) (b + 52 + i) := fun i hi => by
    have := zOb_op (b := b) (u := u) (g := g) (k := i) (by omega) (by omega)
    rw [Int.toNat_natCast] at this
    exact this
  have s52 : sH b u g (b + 52 + k) = none := by rw [Nat.add_assoc b 52, sH_in _ (by omega), sC_52 k20, hk, if_neg (by omega)]
  have s42 : sH b u g (b + 42 + j) = some (oL (u 6 (8 + j)) (if L = 0 then 1 else b + 47 + j) L) := by
    rw [Nat.add_assoc b 42, sH_in _ (by omega), sC_42 hj5, if_pos h0, hL]
    by_cases z : L = 0
    · rw [if_pos (by omega), if_pos z]
    · rw [if_neg (by omega), if_neg z]
  have s47 : L ≠ 0 → sH b u g (b + 47 + j) = some (aR 10 L fun q => b + 52 + (u 0 (22 + 4 * j + q)).toNat) := fun z => by
    rw [Nat.add_assoc b 47, sH_in _ (by omega), sC_47 hj5, hL, if_pos ⟨h0, by omega⟩, Int.toNat_natCast]
  have s47n : L = 0 → sH b u g (b + 47 + j) = none := fun z => by
    rw [Nat.add_assoc b 47, sH_in _ (by omega), sC_47 hj5, hL, if_neg (fun q => q.2 (by omega))]
  have s32 : sH b u g (b + 32 + j) = some (.inr (4, [.ref (b + 37 + j), .ref (b + 42 + j)])) := by
    rw [Nat.add_assoc b 32, sH_in _ (by omega), sC_32 hj5, if_pos h0]
  have hgj := gt_jobs (b := b) (u := u) (g := g) (j := j) (by omega) (by omega)
  rw [Int.toNat_natCast] at hgj
  -- the stages
  generalize hH0 : zup (sH b u g) (b + 52 + k) (.inr (5, [.int 0, .int 0, .int 0, .int 0, .int 0, .int 0])) = H0 at *
  have e0 : ∀ x, x ≠ b + 52 + k → H0 x = sH b u g x := fun x hx => by rw [← hH0]; exact zup_ne hx
  have e00 : H0 (b + 52 + k) = some (.inr (5, [.int 0, .int 0, .int 0, .int 0, .int 0, .int 0])) := by rw [← hH0]; exact zup_at _ _ _
  have hsz1 := jl_size (h := H0) (L := b + 3) ((e0 _ (by omega)).trans s3)
  have hsz2 := jl_size (h := H0) (L := b + 42 + j) ((e0 _ (by omega)).trans s42)
  have hini := x6_init (h := H0) (n := k) (j := j) (i := L) (m := m) (d := d) (f := f) e00 (by omega)
  rw [← hH0, zup_zup, hH0] at hini
  generalize hH1 : zup (sH b u g) (b + 52 + k) (.inr (5, [.int (iI k), .int (iI j), .int (iI m), .int (iI f), .int (iI L), .int (iI d)])) = H1 at *
  have e1 : ∀ x, x ≠ b + 52 + k → H1 x = sH b u g x := fun x hx => by rw [← hH1]; exact zup_ne hx
  have e10 : H1 (b + 52 + k) = some (.inr (5, [.int (iI k), .int (iI j), .int (iI m), .int (iI f), .int (iI L), .int (iI d)])) := by rw [← hH1]; exact zup_at _ _ _
  have had1 := jopAdd (b := b) (H := H1) (j := j) (L := L) (x := b + 52 + k) hb ((e1 _ (by omega)).trans s42) (fun z => (e1 _ (by omega)).trans (s47 z)) (fun z => (e1 _ (by omega)).trans (s47n z)) ((e1 _ (by omega)).trans ((sH_out (by omega)).trans hA1)) (Or.inl ⟨_, _, _, e10, rfl, q2299⟩) L4
  generalize hH2 : zup (zup H1 (b + 47 + j) (aR 10 (L + 1) fun q => if q = L then b + 52 + k else b + 52 + (u 0 (22 + 4 * j + q)).toNat)) (b + 42 + j) (oL (u 6 (8 + j) + 1) (b + 47 + j) ((L : Int) + 1)) = H2 at *
  have e2 : ∀ x, x ≠ b + 47 + j → x ≠ b + 42 + j → H2 x = H1 x := fun x hx hy => by rw [← hH2]; exact (zup_ne hy).trans (zup_ne hx)
  have e2a : ∀ x, x ≠ b + 47 + j → x ≠ b + 42 + j → x ≠ b + 52 + k → H2 x = sH b u g x := fun x h1 h2 h3 => (e2 x h1 h2).trans (e1 x h3)
  have had2 := opsAdd (b := b) (H := H2) (k := k) hb ((e2a _ (by omega) (by omega) (by omega)).trans s3) (fun z => (e2a _ (by omega) (by omega) (by omega)).trans (sA z)) (fun z => (e2a _ (by omega) (by omega) (by omega)).trans (sN z)) ((e2a _ (by omega) (by omega) (by omega)).trans ((sH_out (by omega)).trans hA1)) ((e2a _ (by omega) (by omega) (by omega)).trans ((sH_out (by omega)).trans hA7)) (fun i hi => by
    by_cases z : i = k
    · exact Or.inl ⟨_, _, _, by rw [z]; exact (e2 _ (by omega) (by omega)).trans e10, rfl, q2299⟩
    · have hz := sH_op (b := b) (u := u) (g := g) (k := i) (by omega) (by omega)
      rw [Int.toNat_natCast] at hz
      exact Or.inl ⟨_, _, _, (e2a _ (by omega) (by omega) (by omega)).trans hz, rfl, q2299⟩) k20
  generalize hH3 : zup (zup H2 (b + oAr (k + 1)) (aR (oCp (k + 1)) (k + 1) fun q => b + 52 + q)) (b + 3) (oL (u 6 1 + 1) (b + oAr (k + 1)) ((k : Int) + 1)) = H3 at *
  have e3 : ∀ x, x ≠ b + oAr (k + 1) → x ≠ b + 3 → H3 x = H2 x := fun x hx hy => by rw [← hH3]; exact (zup_ne hy).trans (zup_ne hx)
  have e3a : ∀ x, x ≠ b + oAr (k + 1) → x ≠ b + 3 → x ≠ b + 47 + j → x ≠ b + 42 + j → x ≠ b + 52 + k → H3 x = sH b u g x := fun x h1 h2 h3 h4 h5 => (e3 x h1 h2).trans (e2a x h3 h4 h5)
  have hor : H3 (b + 20 + m) = some (oO (b + 24 + m) n) := by rw [e3a _ (by omega) (by omega) (by omega) (by omega) (by omega), sH_oN (by omega), hn]
  have hrw : H3 (b + 24 + m) = some (aI 5 fun q => u 0 (183 + 5 * m + q)) := by rw [e3a _ (by omega) (by omega) (by omega) (by omega) (by omega), sH_rN (by omega)]
  have e18 : H3 (b + 18) = some (oL (u 6 3) (b + 19) 4) := (e3a _ (by omega) (by omega) (by omega) (by omega) (by omega)).trans sH_ords
  have hgo : zG2 (b + 18) m H3 (b + 20 + m) := jl_get e18 ((e3a _ (by omega) (by omega) (by omega) (by omega) (by omega)).trans (sH_in 19 (by omega))) (by omega) (by omega) (by omega) (by omega) rfl
  have had3 := x3_add (h := H3) (o := b + 20 + m) (r := b + 24 + m) (v := k) hor hrw (by omega) (by omega) (by omega)
  rw [Int.toNat_natCast] at had3
  generalize hH4 : zup (zup H3 (b + 24 + m) (aI 5 (sup (fun q => u 0 (183 + 5 * m + q)) n k))) (b + 20 + m) (oO (b + 24 + m) ((n : Int) + 1)) = H4 at *
  have o3 : H3 (b + 52 + k) = some (.inr (5, [.int (iI k), .int (iI j), .int (iI m), .int (iI f), .int (iI L), .int (iI d)])) := (e3 _ (by omega) (by omega)).trans ((e2 _ (by omega) (by omega)).trans e10)
  have o4 : H4 (b + 52 + k) = some (.inr (5, [.int (iI k), .int (iI j), .int (iI m), .int (iI f), .int (iI L), .int (iI d)])) := by rw [← hH4]; exact (zup_ne (by omega)).trans ((zup_ne (by omega)).trans o3)
  have b0 : H0 b = some (.inr (2, sF b u)) := (e0 _ (by omega)).trans sH_shop
  have b2 : H2 b = some (.inr (2, sF b u)) := (e2a _ (by omega) (by omega) (by omega)).trans sH_shop
  have b3 : H3 b = some (.inr (2, sF b u)) := (e3a _ (by omega) (by omega) (by omega) (by omega) (by omega)).trans sH_shop
  have j0 : H0 (b + 32 + j) = some (.inr (4, [.ref (b + 37 + j), .ref (b + 42 + j)])) := (e0 _ (by omega)).trans s32
  have j1 : H1 (b + 32 + j) = some (.inr (4, [.ref (b + 37 + j), .ref (b + 42 + j)])) := (e1 _ (by omega)).trans s32
  have hob0 : ∀ x : zH → Prop, x H4 → x (sH b (wNO u j m d f) g) := fun x hx => by rw [← hend]; exact hx
  refine z_aload_n K dX2_addOperation_0 rfl rfl rfl ?_
  refine z_get K fd_X2_12_2 ((by first | exact sH_shop | exact b0 | exact b2 | exact b3)) rfl dX2_addOperation_1 ?_
  refine z_iload_n K dX2_addOperation_4 rfl rfl ?_
  refine z_callV K (hgj) cV_X2_59_J2 (sH_jobs) rfl rfl rfl (by omega) (by omega) (by omega) (Nat.le_of_ble_eq_true rfl) dX2_addOperation_5 zrX (zrK ?_)
  refine z_castS K ((by first | exact s32 | exact j0 | exact j1)) rfl q417 dX2_addOperation_8 ?_
  refine z_astore K dX2_addOperation_11 rfl (by decide) rfl ?_
  refine z_new K (b + 52 + k) nw_X2_77 s52 (by omega) (by omega) (by omega) dX2_addOperation_13 ?_
  rw [hH0]
  refine z_dup K dX2_addOperation_16 rfl ?_
  refine z_aload_n K dX2_addOperation_17 rfl rfl rfl ?_
  refine z_get K fd_X2_18_2 ((by first | exact sH_shop | exact b0 | exact b2 | exact b3)) rfl dX2_addOperation_18 ?_
  refine z_callV K (hsz1) cV_X2_55_J2 ((by first | exact (e0 _ (by omega)).trans s3 | exact (e2a _ (by omega) (by omega) (by omega)).trans s3)) rfl rfl rfl (by omega) (by omega) (by omega) (Nat.le_of_ble_eq_true rfl) dX2_addOperation_21 zrX (zrK ?_)
  refine z_iload_n K dX2_addOperation_24 rfl rfl ?_
  refine z_aload K dX2_addOperation_25 rfl rfl ?_
  refine z_get K fd_X2_111_4 ((by first | exact s32 | exact j0 | exact j1)) rfl dX2_addOperation_27 ?_
  refine z_callV K (hsz2) cV_X2_55_J2 ((by first | exact (e0 _ (by omega)).trans s42 | exact (e1 _ (by omega)).trans s42)) rfl rfl rfl (by omega) (by omega) (by omega) (Nat.le_of_ble_eq_true rfl) dX2_addOperation_30 zrX (zrK ?_)
  refine z_iload_n K dX2_addOperation_33 rfl rfl ?_
  refine z_iload_n K dX2_addOperation_34 rfl rfl ?_
  refine z_iload K dX2_addOperation_35 rfl ?_
  refine z_cI (fs := []) K (hini) cI_X2_112 rfl rfl (by omega) (by omega) (by omega) (Nat.le_of_ble_eq_true rfl) dX2_addOperation_37 zvX (zvK ?_)
  refine z_astore K dX2_addOperation_40 rfl (by decide) rfl ?_
  refine z_aload K dX2_addOperation_42 rfl rfl ?_
  refine z_get K fd_X2_111_4 ((by first | exact s32 | exact j0 | exact j1)) rfl dX2_addOperation_44 ?_
  refine z_aload K dX2_addOperation_47 rfl rfl ?_
  refine z_callV K (had1) cV_X2_47_J2 ((by first | exact (e0 _ (by omega)).trans s42 | exact (e1 _ (by omega)).trans s42)) rfl rfl rfl (by omega) (by omega) (by omega) (Nat.le_of_ble_eq_true rfl) dX2_addOperation_49 zrX (zrK ?_)
  refine z_pop K dX2_addOperation_52 rfl ?_
  refine z_aload_n K dX2_addOperation_53 rfl rfl rfl ?_
  refine z_get K fd_X2_18_2 ((by first | exact sH_shop | exact b0 | exact b2 | exact b3)) rfl dX2_addOperation_54 ?_
  refine z_aload K dX2_addOperation_57 rfl rfl ?_
  refine z_callV K (had2) cV_X2_47_J2 ((by first | exact (e0 _ (by omega)).trans s3 | exact (e2a _ (by omega) (by omega) (by omega)).trans s3)) rfl rfl rfl (by omega) (by omega) (by omega) (Nat.le_of_ble_eq_true rfl) dX2_addOperation_59 zrX (zrK ?_)
  refine z_pop K dX2_addOperation_62 rfl ?_
  refine z_aload_n K dX2_addOperation_63 rfl rfl rfl ?_
  refine z_get K fd_X2_28_2 ((by first | exact sH_shop | exact b0 | exact b2 | exact b3)) rfl dX2_addOperation_64 ?_
  refine z_iload_n K dX2_addOperation_67 rfl rfl ?_
  refine z_callV K (hgo) cV_X2_59_J2 (e18) rfl rfl rfl (by omega) (by omega) (by omega) (Nat.le_of_ble_eq_true rfl) dX2_addOperation_68 zrX (zrK ?_)
  refine z_castS K (hor) rfl q246 dX2_addOperation_71 ?_
  refine z_aload K dX2_addOperation_74 rfl rfl ?_
  refine z_get K fd_X2_115_5 ((by first | exact o3 | exact o4)) rfl dX2_addOperation_76 ?_
  refine z_callV K (had3) cV_X2_118_X3 (hor) rfl rfl rfl (by omega) (by omega) (by omega) (Nat.le_of_ble_eq_true rfl) dX2_addOperation_79 zvX (zvK ?_)
  refine z_aload K dX2_addOperation_82 rfl rfl ?_
  refine z_get K fd_X2_115_5 ((by first | exact o3 | exact o4)) rfl dX2_addOperation_84 ?_
  exact z_iret K (by omega) (by omega) (⟨rfl, hend⟩) dX2_addOperation_87
end XAo

