/-! ===== the component: the least makespan of a machine; the machines closed one after the other ===== -/
/-- the mask without the machine m -/
def oF (a m : Nat) : Nat := a - a / 2 ^ m % 2 * 2 ^ m
theorem oF_bit : ∀ a, a < 16 → ∀ m, m < 4 → iI ((a : Nat) : Int) &&& ((iI 1 <<< (iI ((m : Nat) : Int) &&& 31)) ^^^ iI (-1)) = iI ((oF a m : Nat) : Int) := by decide +kernel
theorem oF_lt : ∀ a, a < 16 → ∀ m, m < 4 → oF a m < 16 := by decide +kernel
theorem oF_at : ∀ a, a < 16 → ∀ m, m < 4 → ∀ i, i < 4 → oF a m / 2 ^ i % 2 = if i = m then 0 else a / 2 ^ i % 2 := by decide +kernel
theorem oB_hi {a m : Nat} (h : a < 16) (hm : 4 ≤ m) : oB a m = 0 := by
  have h1 : (2 : Nat) ^ 4 ≤ 2 ^ m := Nat.pow_le_pow_right (by decide) hm
  have h2 : a / 2 ^ m = 0 := Nat.div_eq_of_lt (by omega)
  unfold oB
  rw [h2]
  rfl
theorem oB_oF {a m : Nat} (h : a < 16) (hm : m < 4) : oB (oF a m) = sup (oB a) m 0 := by
  funext i
  by_cases e : i = m
  · subst e
    rw [sup_s]
    unfold oB
    rw [oF_at a h i hm i hm, if_pos rfl]
    rfl
  · rw [sup_n e]
    by_cases e4 : i < 4
    · unfold oB
      rw [oF_at a h m hm i e4, if_neg e]
    · rw [oB_hi (oF_lt a h m hm) (by omega), oB_hi h (by omega)]
theorem oB_15 : ∀ m, m < 4 → oB 15 m = 1 := by decide +kernel
section XSh
variable {b : Nat} {u : tW} {g : zH} {N m : Nat}
theorem zup_z2 {h : zH} {p q : Nat} {x y x2 y2 : zC} (e : p ≠ q) : zup (zup (zup (zup h p x) q y) p x2) q y2 = zup (zup h p x2) q y2 := by
  rw [zup_comm (h := zup h p x) (show q ≠ p from fun z => e z.symm), zup_zup, zup_zup]
theorem sPut_back {s : Nat → Int} {m n : Nat} {f : Nat → Int} (hn : n ≤ 5) : sPut (sPut s m n f) m 5 (fun q => s (183 + 5 * m + q)) = s := by
  funext i
  unfold sPut
  by_cases e : 183 + 5 * m ≤ i ∧ i < 183 + 5 * m + 5
  · rw [if_pos e]
    exact congrArg s (by omega)
  · rw [if_neg e, if_neg (by omega)]
theorem x2_optimum {a n : Nat} (hb : 1000 ≤ b) (hN : b + 72 ≤ N) (hTp : zTop g N) (ha : a < 16) (hm : m ≤ 3) (hA : WfA (u 0)) (hO : WfO (u 0)) (hB : BkOk b u g) (hn : sOn (u 0) m = n) (h52 : u 5 2 = -1) (h53 : 0 ≤ u 5 3 ∧ u 5 3 ≤ 3000) :
    zMet yX2_optimum (ws_ yX2_optimum cX2_optimum 5 (some .int)) 8 [.ref b, .int (iI m), .int (iI a)] (sH b u g) (fun z h' => ∃ u' g' bm bo, z = .inl (some (.int (iI bm))) ∧ h' = sH b u' g' ∧ (-1 ≤ bm ∧ bm ≤ 10000) ∧ bOf (u 0) (oB a) m n (fun _ => True) bm bo ∧ u' 0 = u 0 ∧ SO u u' ∧ zExt N g g' ∧ zTop g' (N + 4)) 4 17 := by
  have hn5 := (hO m (by omega) (by omega)).1
  rw [hn] at hn5
  have on : u 0 (179 + m) = n := by rw [← hn]; exact congrArg (u 0) (by omega)
  refine zMet.of (by decide) (Nat.le_of_ble_eq_true rfl) fun X K => ?_
  have hnew := x3_newS (b := b) (u := u) (g := g) hTp hN hb
  have hor0 := sH_oN (b := b) (u := u) (g := tO N 0 (fun _ => 0) g) hm
  rw [on] at hor0
  have hrw0 := sH_rN (b := b) (u := u) (g := tO N 0 (fun _ => 0) g) hm
  have htk0 := x3_take (h := sH b u (tO N 0 (fun _ => 0) g)) (o := N) (r := N + 1) (o2 := b + 20 + m) (r2 := b + 24 + m) ((sH_out (by omega)).trans tO_0) ((sH_out (by omega)).trans tO_1) hor0 hrw0 (by omega) (by omega)
  rw [sH_upo (by omega), sH_upo (by omega), tO_put] at htk0
  have hgo0 := gt_ord (b := b) (u := u) (g := tO N 0 (fun _ => 0) g) (m := m) (by omega)
  rw [Int.toNat_natCast] at hgo0
  have hopt := x2_optG (b := b) (u := u) (g := tO N n (fun q => u 0 (183 + 5 * m + q)) g) (N := N + 2) (m := m) (a := a) (n := n) hb (by omega) (tO_top hTp) ha hm hA hO (hB.ext tO_ext hTp) hn h52 h53
  have c29 : ∀ (u' : tW) (g' : zH) (bm : Int) (bo : Nat → Int) (kk : Int) (fb f : Nat → Int), (-1 ≤ bm ∧ bm ≤ 10000) → bOf (u 0) (oB a) m n (fun _ => True) bm bo → isPm (u 0) m n f → oW (u 0) m n f u u' → zExt (N + 2) (tO N n (fun q => u 0 (183 + 5 * m + q)) g) g' → zTop g' (N + 2 + 2) → ∀ env, zsub env [(0, .ref b), (1, .int (iI m)), (3, .ref N)] → zW X (fun z h' => ∃ u' g' bm bo, z = .inl (some (.int (iI bm))) ∧ h' = sH b u' g' ∧ (-1 ≤ bm ∧ bm ≤ 10000) ∧ bOf (u 0) (oB a) m n (fun _ => True) bm bo ∧ u' 0 = u 0 ∧ SO u u' ∧ zExt N g g' ∧ zTop g' (N + 4)) (zup (zup (sH b u' g') (b + 24 + m) (aI 5 fb)) (b + 20 + m) (oO (b + 24 + m) kk)) 4 17 29 env [.int (iI bm)] := by
    intro u' g' bm bo kk fb f hbr hall hf ho hx ht env he
    refine zW.cut he ?_
    obtain ⟨hA1, -⟩ := sPut_W hA hO hm hn hf
    have hor : zup (zup (sH b u' g') (b + 24 + m) (aI 5 fb)) (b + 20 + m) (oO (b + 24 + m) kk) (b + 20 + m) = some (oO (b + 24 + m) kk) := zup_at _ _ _
    have hrw : zup (zup (sH b u' g') (b + 24 + m) (aI 5 fb)) (b + 20 + m) (oO (b + 24 + m) kk) (b + 24 + m) = some (aI 5 fb) := (zup_ne (by omega)).trans (zup_at _ _ _)
    have ho2 : zup (zup (sH b u' g') (b + 24 + m) (aI 5 fb)) (b + 20 + m) (oO (b + 24 + m) kk) N = some (oO (N + 1) n) := (zup_ne (by omega)).trans ((zup_ne (by omega)).trans ((sH_out (by omega)).trans ((hx N (by omega)).trans tO_0)))
    have hr2 : zup (zup (sH b u' g') (b + 24 + m) (aI 5 fb)) (b + 20 + m) (oO (b + 24 + m) kk) (N + 1) = some (aI 5 fun q => u 0 (183 + 5 * m + q)) := (zup_ne (by omega)).trans ((zup_ne (by omega)).trans ((sH_out (by omega)).trans ((hx (N + 1) (by omega)).trans tO_1)))
    have hob : zup (zup (sH b u' g') (b + 24 + m) (aI 5 fb)) (b + 20 + m) (oO (b + 24 + m) kk) b = some (.inr (2, sF b u')) := (zup_ne (by omega)).trans ((zup_ne (by omega)).trans sH_shop)
    have h18 : zup (zup (sH b u' g') (b + 24 + m) (aI 5 fb)) (b + 20 + m) (oO (b + 24 + m) kk) (b + 18) = some (oL (u' 6 3) (b + 19) 4) := (zup_ne (by omega)).trans ((zup_ne (by omega)).trans sH_ords)
    have h19 : zup (zup (sH b u' g') (b + 24 + m) (aI 5 fb)) (b + 20 + m) (oO (b + 24 + m) kk) (b + 19) = sH b u' g' (b + 19) := (zup_ne (by omega)).trans (zup_ne (by omega))
    have htk := x3_take hor hrw ho2 hr2 (by omega) (by omega)
    have e0 : wRow u' (sPut (u' 0) m 5 fun q => u 0 (183 + 5 * m + q)) 0 = u 0 := by rw [wRow_0, ho.1]; exact sPut_back (by omega)
    have hend : zup (zup (zup (zup (sH b u' g') (b + 24 + m) (aI 5 fb)) (b + 20 + m) (oO (b + 24 + m) kk)) (b + 24 + m) (aI 5 fun q => u 0 (183 + 5 * m + q))) (b + 20 + m) (oO (b + 24 + m) n) = sH b (wRow u' (sPut (u' 0) m 5 fun q => u 0 (183 + 5 * m + q))) g' := by
      rw [zup_z2 (by omega), sH_rowF hm (by rw [ho.1]; exact hA1.1)]
      exact sH_oszN (by rw [e0]; exact on) hm
    rw [hend] at htk
    have hfin : ∃ u9 g9 bm9 bo9, (Sum.inl (some (Value.int (iI bm))) : zO) = .inl (some (.int (iI bm9))) ∧ sH b (wRow u' (sPut (u' 0) m 5 fun q => u 0 (183 + 5 * m + q))) g' = sH b u9 g9 ∧ (-1 ≤ bm9 ∧ bm9 ≤ 10000) ∧ bOf (u 0) (oB a) m n (fun _ => True) bm9 bo9 ∧ u9 0 = u 0 ∧ SO u u9 ∧ zExt N g g9 ∧ zTop g9 (N + 4) := ⟨_, _, bm, bo, rfl, rfl, hbr, hall, e0, ho.2.tr SO.row, tO_ext.tr hx (by omega), ht⟩
    have hgo : zG2 (b + 18) m (zup (zup (sH b u' g') (b + 24 + m) (aI 5 fb)) (b + 20 + m) (oO (b + 24 + m) kk)) (b + 20 + m) := jl_get h18 (h19.trans (sH_in 19 (by omega))) (by omega) (by omega) (by omega) (by omega) rfl
    generalize zup (zup (sH b u' g') (b + 24 + m) (aI 5 fb)) (b + 20 + m) (oO (b + 24 + m) kk) = hp at *
    refine z_istore K dX2_optimum_29 (by decide) rfl ?_
    refine z_aload_n K dX2_optimum_31 rfl rfl rfl ?_
    refine z_get K fd_X2_28_2 (hob) rfl dX2_optimum_32 ?_
    refine z_iload_n K dX2_optimum_35 rfl rfl ?_
    refine z_callV K (hgo) cV_X2_59_J2 (h18) rfl rfl rfl (by omega) (by omega) (by omega) (Nat.le_of_ble_eq_true rfl) dX2_optimum_36 zrX (zrK ?_)
    refine z_castS K (hor) rfl q246 dX2_optimum_39 ?_
    refine z_aload_n K dX2_optimum_42 rfl rfl rfl ?_
    refine z_callV K (htk) cV_X2_107_X3 (hor) rfl rfl rfl (by omega) (by omega) (by omega) (Nat.le_of_ble_eq_true rfl) dX2_optimum_43 zvX (zvK ?_)
    refine z_iload K dX2_optimum_46 rfl ?_
    exact z_iret K (by omega) (by omega) (hfin) dX2_optimum_48
  refine z_new K (N) nw_X2_51 ((sH_out (by omega)).trans (hTp N (Nat.le_refl N))) (by omega) (by omega) (by omega) dX2_optimum_0 ?_
  refine z_dup K dX2_optimum_3 rfl ?_
  refine z_cIN (fs := []) K (hnew) cI_X2_53 rfl rfl (by omega) (by omega) (by omega) (Nat.le_of_ble_eq_true rfl) dX2_optimum_4 zvX (zvK ?_)
  refine z_astore_n K dX2_optimum_7 rfl rfl (by decide) rfl ?_
  refine z_aload_n K dX2_optimum_8 rfl rfl rfl ?_
  refine z_aload_n K dX2_optimum_9 rfl rfl rfl ?_
  refine z_get K fd_X2_28_2 (sH_shop) rfl dX2_optimum_10 ?_
  refine z_iload_n K dX2_optimum_13 rfl rfl ?_
  refine z_callV K (hgo0) cV_X2_59_J2 (sH_ords) rfl rfl rfl (by omega) (by omega) (by omega) (Nat.le_of_ble_eq_true rfl) dX2_optimum_14 zrX (zrK ?_)
  refine z_castS K (hor0) rfl q246 dX2_optimum_17 ?_
  refine z_callV K (htk0) cV_X2_107_X3 (((sH_out (by omega)).trans tO_0)) rfl rfl rfl (by omega) (by omega) (by omega) (Nat.le_of_ble_eq_true rfl) dX2_optimum_20 zvX (zvK ?_)
  refine z_aload_n K dX2_optimum_23 rfl rfl rfl ?_
  refine z_iload_n K dX2_optimum_24 rfl rfl ?_
  refine z_iload_n K dX2_optimum_25 rfl rfl ?_
  refine z_callV K (hopt) cV_X2_216_X2 (sH_shop) rfl rfl rfl (by omega) (by omega) (by omega) (Nat.le_of_ble_eq_true rfl) dX2_optimum_26 (fun _ _ ⟨_, _, _, _, _, _, _, e, _⟩ => nomatch e) ?_
  rintro _ _ ⟨u', g', bm, bo, kk, fb, f, ez, rfl, hbr, hall, hf, ho, -, hx, ht⟩
  cases ez
  exact c29 u' g' bm bo kk fb f hbr hall hf ho hx ht _ ⟨rfl, rfl, rfl, trivial⟩
end XSh

