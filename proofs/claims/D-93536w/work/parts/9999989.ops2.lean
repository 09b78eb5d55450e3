/-! ===== the component's operations: bounds, the best order, properties, slack ===== -/
theorem bR.uniq {s : Nat → Int} {m : Int} : ∀ (n n' : Nat) (t : Int) (lf : Nat → Int) (u b v v' : Int), bR s m n t lf u b v → bR s m n' t lf u b v' → v = v'
  | 0, _, _, _, _, _, _, _, h, _ => h.elim
  | _ + 1, 0, _, _, _, _, _, _, _, h => h.elim
  | n + 1, n' + 1, t, lf, u, b, v, v', h, k => by
    rcases h with ⟨h1, h2⟩ | ⟨h1, h2⟩ <;> rcases k with ⟨k1, k2⟩ | ⟨k1, k2⟩
    · rw [h2, k2]
    · omega
    · omega
    · rcases h2 with ⟨a1, a2⟩ | ⟨x, a1, a2⟩ <;> rcases k2 with ⟨c1, c2⟩ | ⟨y, c1, c2⟩
      · exact bR.uniq n n' _ _ _ _ _ _ a2 c2
      · exact absurd c1.1 (a1 y)
      · exact absurd a1.1 (c1 x)
      · obtain rfl := a1.uniq c1
        rcases a2 with ⟨d1, d2⟩ | ⟨d1, d2⟩ <;> rcases c2 with ⟨e1, e2⟩ | ⟨e1, e2⟩
        · exact bR.uniq n n' _ _ _ _ _ _ d2 e2
        · exact absurd d1 e1
        · exact absurd e1 d1
        · exact bR.uniq n n' _ _ _ _ _ _ d2 e2
theorem bOn.uniq {s : Nat → Int} {m v v' : Int} (h : bOn s m v) (k : bOn s m v') : v = v' := by
  obtain ⟨n, h⟩ := h
  obtain ⟨n', k⟩ := k
  exact bR.uniq n n' _ _ _ _ _ _ h k
theorem lbR.uniq {s : Nat → Int} : ∀ (n : Nat) (v v' : Int), lbR s n v → lbR s n v' → v = v'
  | 0, _, _, h, k => h.trans k.symm
  | n + 1, _, _, ⟨a, c, h1, h2, h3⟩, ⟨a', c', k1, k2, k3⟩ => by rw [h3, k3, lbR.uniq n a a' h1 k1, h2.uniq k2]
theorem lbQ.uniq {s : Nat → Int} {v v' : Int} (h : lbQ s v) (k : lbQ s v') : v = v' := by
  obtain ⟨a, h1, h2⟩ := h
  obtain ⟨a', k1, k2⟩ := k
  rw [h2, k2, lbR.uniq 4 a a' h1 k1]
section XO2
variable {b N N' : Nat} {u u' w : tW} {g g' : zH}
theorem BkOk.so (h : BkOk b u g) (e0 : u' 0 = u 0) (e7 : u' 7 = u 7) (e8 : u' 8 = u 8) : BkOk b u' g := by
  intro m i m0 m1 i0 i1
  rw [e0] at i1
  rw [e0, e7, e8]
  exact h m i m0 m1 i0 i1
/-- cells are made, times are found; the row stays -/
theorem CG.so (h : CG b N u g w) (k : SO u u') (e0 : u' 0 = u 0) (he : zExt N g g') (hT : zTop g' N') (hN : N ≤ N') : CG b N' u' g' w :=
  h.mv he hT hN (fun _ _ _ _ => rfl) (by rw [e0]; exact h.row) (by rw [e0]; exact h.2.2.2.2.2.1) ((h.bk.ext he h.2.2.2.1).so e0 (k.1 7 (by decide)) (k.1 8 (by decide))) k.2.1 k.2.2.1 k.2.2.2
theorem CG.gr (h : CG b N u g w) (he : zExt N g g') (hT : zTop g' N') (hN : N ≤ N') : CG b N' u g' w := h.so SO.rf rfl he hT hN
theorem CG.glo (h : CG b N u g w) (he : zExt N g g') : ∀ m, m < 1040 → sH b u g m = g' m := fun m hm => (h.lo m hm).trans (he m (by have := h.n8; omega)).symm
theorem x1_bound {m : Int} (hC : CG b N u g w) (hm : i32 m) : zMet yX1_bound (ws_ yX1_bound cX1_bound 2 (some .int)) 8 [.ref 1040, .int (iI m)] (sH b u g) (cQ (sH b u g) (pubQ w (tcMach m) (bndQ w m)) (cdA 24 99 99)) 2 11 := by
  obtain ⟨sv, T, fl, cl, hx⟩ := hC.xg
  have n8 := hC.n8
  have k0 := x1_orderOf hC hm
  have hex : ¬ (0 ≤ m ∧ m ≤ 3) → cQ (sH b u g) (pubQ w (tcMach m) (bndQ w m)) (cdA 24 99 99) (.inr N) (zup (sH b u g) N (oEx 24 (sH b u g) N)) := fun ck => cQ.ex hC hC.lo (by decide) (fun v' w' r => pubQ.ex r (if_neg ck) (by decide))
  refine zMet.of (by decide) (Nat.le_of_ble_eq_true rfl) fun X K => ?_
  refine z_aload_n K dX1_bound_0 rfl rfl rfl ?_
  refine z_iload_n K dX1_bound_1 rfl rfl ?_
  refine z_callV K (k0) cV_X1_146_X1 (hx _) rfl rfl rfl (by omega) (by omega) (by omega) (Nat.le_of_ble_eq_true rfl) dX1_bound_2 (ckX fun ck_2 => z_out K rfl (by omega) (by omega) (hex ck_2)) (rkK fun ck_2 => ?_)
  have hon := (hC.O m ck_2.1 ck_2.2).1
  refine z_pop K dX1_bound_5 rfl ?_
  refine z_aload_n K dX1_bound_6 rfl rfl rfl ?_
  refine z_get K fd_X1_16_1 (hx _) rfl dX1_bound_7 ?_
  refine z_iload_n K dX1_bound_10 rfl rfl ?_
  refine z_callV K (x2_bound (n := (sOn (u 0) m).toNat) n8.1 n8.2.2.1 hC.2.2.2.1 ck_2 hC.A hC.O (by omega)) cV_X1_289_X2 (sH_shop) rfl rfl rfl (by omega) (by omega) (by omega) (Nat.le_of_ble_eq_true rfl) dX1_bound_11 (fun q h1 hq => by obtain ⟨_, _, z, -⟩ := hq; cases z) ?_
  rintro v h1 ⟨vb, g', z, rfl, hb, -, he, ht⟩
  cases z
  exact z_iret K (by omega) (by omega) (cQ.ok (hC.gr he ht (by omega)) (hC.glo he) (by intro v' w' r; obtain ⟨r1, r2, r3⟩ := r.1 (if_pos ck_2); exact ⟨r3, by rw [← hC.row] at r1; exact r1.uniq hb, sw.fr r2 (by simp; omega), r2 0 (by decide)⟩)) dX1_bound_14
theorem x1_lowerBound (hC : CG b N u g w) : zMet yX1_lowerBound (ws_ yX1_lowerBound cX1_lowerBound 1 (some .int)) 9 [.ref 1040] (sH b u g) (cQ (sH b u g) (fun v w' => lbQ (w 0) v ∧ Fr [3, 27, 28, 29] w w' ∧ w' 3 0 = 0) (cdA 99 99 99)) 4 20 := by
  obtain ⟨sv, T, fl, cl, hx⟩ := hC.xg
  have n8 := hC.n8
  refine zMet.of (by decide) (Nat.le_of_ble_eq_true rfl) fun X K => ?_
  refine z_aload_n K dX1_lowerBound_0 rfl rfl rfl ?_
  refine z_get K fd_X1_16_1 (hx _) rfl dX1_lowerBound_1 ?_
  refine z_callV K (x2_lowerBound n8.1 n8.2.2.1 hC.2.2.2.1 hC.A hC.O) cV_X1_292_X2 (sH_shop) rfl rfl rfl (by omega) (by omega) (by omega) (Nat.le_of_ble_eq_true rfl) dX1_lowerBound_4 (fun q h1 hq => by obtain ⟨_, _, z, -⟩ := hq; cases z) ?_
  rintro v h1 ⟨vb, g', z, rfl, hb, he, ht⟩
  cases z
  exact z_iret K (by omega) (by omega) (cQ.ok (hC.gr he ht (by omega)) (hC.glo he) (by rintro v' w' ⟨r1, r2, r3⟩; exact ⟨r3, by rw [← hC.row] at r1; exact r1.uniq hb, sw.fr r2 (by simp; omega), r2 0 (by decide)⟩)) dX1_lowerBound_7
theorem bOf.ob {s o o' : Nat → Int} {m n : Nat} {V : (Nat → Int) → Prop} {bm : Int} {bo : Nat → Int} (hA : WfA s) (hO : WfO s) (hm : m ≤ 3) (hn : sOn s m = n) (e : ∀ m : Nat, m < 4 → o m = o' m) (h : bOf s o m n V bm bo) : bOf s o' m n V bm bo := by
  have e' : ∀ m : Nat, m < 4 → o' m = o m := fun m hm => (e m hm).symm
  have hw := fun c (hc : isPm s m n c) => sPut_W hA hO hm hn hc
  rcases h with ⟨h1, h2⟩ | ⟨h1, h2, h3, h4, h5⟩
  · exact Or.inl ⟨h1, fun c hc hv => by obtain ⟨v, a1, a2⟩ := h2 c hc hv; exact ⟨v, a1.cg (hw c hc).1 e, a2⟩⟩
  · exact Or.inr ⟨h1, h2, h3, h4.cg (hw bo h2).1 e, fun c hc hv v hk hv0 => h5 c hc hv v (hk.cg (hw c hc).1 e') hv0⟩
theorem x1_best {m : Int} (hC : CG b N u g w) (hI : TI w) (hm : i32 m) : zMet yX1_best (ws_ yX1_best cX1_best 2 (some .int)) 9 [.ref 1040, .int (iI m)] (sH b u g) (cQ (sH b u g) (pubQ w (tcMach m) (bestQ w m)) (cdA 24 99 99)) 5 23 := by
  obtain ⟨sv, T, fl, cl, hx⟩ := hC.xg
  have n8 := hC.n8
  have k0 := x1_orderOf hC hm
  have hex : ¬ (0 ≤ m ∧ m ≤ 3) → cQ (sH b u g) (pubQ w (tcMach m) (bestQ w m)) (cdA 24 99 99) (.inr N) (zup (sH b u g) N (oEx 24 (sH b u g) N)) := fun ck => cQ.ex hC hC.lo (by decide) (fun v' w' r => pubQ.ex r (if_neg ck) (by decide))
  refine zMet.of (by decide) (Nat.le_of_ble_eq_true rfl) fun X K => ?_
  refine z_aload_n K dX1_best_0 rfl rfl rfl ?_
  refine z_iload_n K dX1_best_1 rfl rfl ?_
  refine z_callV K (k0) cV_X1_146_X1 (hx _) rfl rfl rfl (by omega) (by omega) (by omega) (Nat.le_of_ble_eq_true rfl) dX1_best_2 (ckX fun ck_2 => z_out K rfl (by omega) (by omega) (hex ck_2)) (rkK fun ck_2 => ?_)
  have hon := (hC.O m ck_2.1 ck_2.2).1
  have em : ((m.toNat : Nat) : Int) = m := by omega
  have k1 := x2_optimum (m := m.toNat) (a := 0) (n := (sOn (u 0) m).toNat) n8.1 n8.2.2.1 hC.2.2.2.1 (by decide) (by omega) hC.A hC.O hC.bk (by rw [em]; omega) hC.2.2.2.2.2.2.2.1 hC.2.2.2.2.2.2.2.2.1
  rw [em] at k1
  refine z_pop K dX1_best_5 rfl ?_
  refine z_aload_n K dX1_best_6 rfl rfl rfl ?_
  refine z_get K fd_X1_16_1 (hx _) rfl dX1_best_7 ?_
  refine z_iload_n K dX1_best_10 rfl rfl ?_
  refine j_iconst K dX1_best_11 ?_
  refine z_callV K (k1) cV_X1_259_X2 (sH_shop) rfl rfl rfl (by omega) (by omega) (by omega) (Nat.le_of_ble_eq_true rfl) dX1_best_12 (fun q h1 hq => by obtain ⟨_, _, _, _, z, -⟩ := hq; cases z) ?_
  rintro v h1 ⟨u', g', bm, bo, z, rfl, hbm, hb, e0, so, he, ht⟩
  cases z
  exact z_iret K (by omega) (by omega) (cQ.ok (hC.so so e0 he ht (by omega)) (hC.glo he) (by intro v' w' r; obtain ⟨bo', r1, r2, r3⟩ := r.1 (if_pos ck_2); rw [← hC.row] at r1; exact ⟨r3, ((r1.ob hC.A hC.O (by omega) (by rw [em]; omega) hI.ob0).uniq hC.A hC.O (by omega) (by rw [em]; omega) hb).1, sw.fr r2 (by simp; omega), r2 0 (by decide)⟩)) dX1_best_15
theorem x1_bottleneck {i : Int} (hC : CG b N u g w) (hi : i32 i) (h9 : w 9 0 = 0 ∨ w 9 0 = 1) : zMet yX1_bottleneck (ws_ yX1_bottleneck cX1_bottleneck 2 (some .int)) 8 [.ref 1040, .int (iI i)] (sH b u g) (cQ (sH b u g) (pubQ w (tcBott (w 9 0) i) (fun v w' => v = w 8 i.toNat ∧ w' = tset w 3 0 0)) (cdA 25 99 99)) 1 6 := by
  have n8 := hC.n8
  obtain ⟨sv, T, fl, cl, a1, -, -, -, a5⟩ := hC.2.2.2.2.2.2.2.2.2.2
  have hx : sH b u g 1040 = some (oX b sv T fl cl (w 10 0)) := (sH_out (by omega)).trans a1
  generalize hR : pubQ w (tcBott (w 9 0) i) (fun v w' => v = w 8 i.toNat ∧ w' = tset w 3 0 0) = R
  have hex : ¬ (w 9 0 ≠ 0 ∧ 0 ≤ i ∧ i ≤ 3) → cQ (sH b u g) R (cdA 25 99 99) (.inr N) (zup (sH b u g) N (oEx 25 (sH b u g) N)) := fun ck => cQ.ex hC hC.lo (by decide) (fun v' w' r => by rw [← hR] at r; exact pubQ.ex r (if_neg ck) (by decide))
  have hok : (w 9 0 ≠ 0 ∧ 0 ≤ i ∧ i ≤ 3) → cQ (sH b u g) R (cdA 25 99 99) (.inl (some (.int (iI (w 8 i.toNat))))) (sH b u g) := fun ck => cQ.ok hC hC.lo (by
    intro v' w' r
    rw [← hR] at r
    obtain ⟨r1, rfl⟩ := r.1 (if_pos ck)
    exact ⟨set3_3, r1, sw.set, set3_0⟩)
  have kc := fun v hv => x1_checkElement (h := sH b u g) (N := N) (v := v) hC.am hv hC.fr n8.2.2.2
  have k1 := x1_inG (h := sH b u g) (x := i) (a := 0) (b := 3) hi (by omega) (by omega)
  refine zMet.of (by decide) (Nat.le_of_ble_eq_true rfl) fun X K => ?_
  have bad : ¬ (w 9 0 ≠ 0 ∧ 0 ≤ i ∧ i ≤ 3) → ∀ env, zsub env [(0, .ref 1040), (1, .int (iI i))] → zW X (cQ (sH b u g) R (cdA 25 99 99)) (sH b u g) 0 0 20 env [] := by
    intro hno env he
    refine zW.cut he ?_
    have kc0 := kc 0 (by omega)
    refine j_iconst K dX1_bottleneck_20 ?_
    refine z_callS K kc0 cS_X1_152 rfl rfl (by omega) (by omega) (by omega) (Nat.le_of_ble_eq_true rfl) dX1_bottleneck_21 (ckX fun ck_21 => z_out K rfl (by omega) (by omega) (hex hno)) (ckK fun ck_21 => absurd rfl ck_21)
  rcases a5 with ⟨e9, rfl⟩ | ⟨e9, c, rfl, hc1, hc2⟩
  · have nx := bad (fun q => q.1 e9)
    refine z_aload_n K dX1_bottleneck_0 rfl rfl rfl ?_
    refine z_get K fd_X1_273_1 (hx) rfl dX1_bottleneck_1 ?_
    refine z_ifnullN (tgt := 20) K dX1_bottleneck_4 rfl ?_
    exact nx _ ⟨rfl, rfl, trivial⟩
  · have hcc : sH b u g c = some (aI 4 (w 8)) := (sH_out hc1.2).trans hc2
    have nx : ¬ (0 ≤ i ∧ i ≤ 3) → _ := fun z => bad (fun q => z q.2)
    have kc1 := kc 1 (by omega)
    refine z_aload_n K dX1_bottleneck_0 rfl rfl rfl ?_
    refine z_get K fd_X1_273_1 (hx) rfl dX1_bottleneck_1 ?_
    refine z_ifnull K dX1_bottleneck_4 ?_
    refine z_iload_n K dX1_bottleneck_7 rfl rfl ?_
    refine j_iconst K dX1_bottleneck_8 ?_
    refine j_iconst K dX1_bottleneck_9 ?_
    refine z_callS K (k1) cS_X1_3 rfl rfl (by omega) (by omega) (by omega) (Nat.le_of_ble_eq_true rfl) dX1_bottleneck_10 zrX (zrK ?_)
    refine j_if_eq (tgt := 20) K dX1_bottleneck_13 rfl (b01r _) (fun c_13 => ?_) (fun c_13 => ?_)
    · exact nx (bI_y c_13) _ ⟨rfl, rfl, trivial⟩
    · refine j_iconst K dX1_bottleneck_16 ?_
      refine z_goto (tgt := 21) K dX1_bottleneck_17 rfl ?_
      have ck := bI_n c_13
      refine z_callS K (kc1) cS_X1_152 rfl rfl (by omega) (by omega) (by omega) (Nat.le_of_ble_eq_true rfl) dX1_bottleneck_21 (ckX fun ck_21 => absurd (by decide) ck_21) (ckK fun ck_21 => ?_)
      refine z_aload_n K dX1_bottleneck_24 rfl rfl rfl ?_
      refine z_get K fd_X1_273_1 (hx) rfl dX1_bottleneck_25 ?_
      refine z_iload_n K dX1_bottleneck_28 rfl rfl ?_
      refine j_ild K (hcc) (by omega) (by omega) dX1_bottleneck_29 ?_
      exact z_iret K (by omega) (by omega) (hok ⟨by omega, ck⟩) dX1_bottleneck_30
end XO2

