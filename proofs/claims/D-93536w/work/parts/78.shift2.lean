/-! ===== the component: the machines closed one after the other ===== -/
/-- one more search: what it leaves -/
theorem shI.opt {s o : Nat → Int} {m n : Nat} (hA : WfA s) (hO : WfO s) (ho : ∀ m : Nat, m < 4 → 0 ≤ o m ∧ o m ≤ 1) (hm : m ≤ 3) (hn : sOn s m = n) {bm : Int} {bo c : Nat → Int} (h : bOf s o m n (fun _ => True) bm bo) (hc : isPm s m n c) (ha : ACy (sPut s m n c) o) : 0 ≤ bm ∧ isPm s m n bo ∧ optR s o m bm (sPut s m n bo) ∧ shI (sPut s m n bo) o := by
  obtain ⟨z1, z2, z3⟩ := h.own hA hO hm hn hc ha
  obtain ⟨wA, wO⟩ := sPut_W hA hO hm hn z2
  have e : (sOn s m).toNat = n := by omega
  exact ⟨z1, z2, ⟨bo, by rw [e]; exact h, by rw [e]⟩, wA, wO, z3.ac wA wO z1, ho⟩
theorem oB_01 (a : Nat) : ∀ m : Nat, m < 4 → 0 ≤ oB a m ∧ oB a m ≤ 1 := fun m _ => by have := oB_r a m; omega
section XSi
variable {b : Nat} {u : tW} {g : zH} {N : Nat}
/-- between the searches -/
def siP (b : Nat) (u : tW) (g : zH) (N : Nat) (s cl : Nat → Int) (u1 : tW) (g1 : zH) : Prop := u1 0 = s ∧ (∀ i, i < 179 → s i = u 0 i) ∧ SO u u1 ∧ zExt N g g1 ∧ g1 N = some (aI 4 cl) ∧ ∃ M, N + 1 ≤ M ∧ zTop g1 M
theorem siP.bk {b : Nat} {u : tW} {g : zH} {N : Nat} {s cl : Nat → Int} {u1 : tW} {g1 : zH} (h : siP b u g N s cl u1 g1) (hB : BkOk b u g) (hA : WfA (u 0)) (hT : zTop g N) : BkOk b u1 g1 := by
  obtain ⟨h1, h2, h3, h4, -⟩ := h
  exact (h3.bk hA.2.2.2.2.2 (fun i hi => by rw [h1]; exact h2 i hi) hB).ext h4 hT
theorem siP.op {b : Nat} {u : tW} {g : zH} {N M : Nat} {s s' cl : Nat → Int} {u1 u2 : tW} {g1 g2 : zH} (h : siP b u g N s cl u1 g1) (hM : N + 1 ≤ M) (e : u2 0 = s') (e1 : ∀ i, i < 179 → s' i = s i) (e2 : SO u1 u2) (e3 : zExt M g1 g2) {M2 : Nat} (h2 : M ≤ M2) (e4 : zTop g2 M2) : siP b u g N s' cl u2 g2 := by
  obtain ⟨h1, h2, h3, h4, h5, -⟩ := h
  exact ⟨e, fun i hi => (e1 i hi).trans (h2 i hi), h3.tr e2, h4.tr e3 (by omega), (e3 N (by omega)).trans h5, M2, by omega, e4⟩
theorem x2_shift {o0 : Nat → Int} (hb : 1000 ≤ b) (hN : b + 72 ≤ N) (hTp : zTop g N) (hA : WfA (u 0)) (hO : WfO (u 0)) (hB : BkOk b u g) (h52 : u 5 2 = -1) (h53 : 0 ≤ u 5 3 ∧ u 5 3 ≤ 3000) (hac : ACy (u 0) o0) :
    zMet yX2_shift (ws_ yX2_shift cX2_shift 8 (some (.array .int))) 9 [.ref b] (sH b u g) (fun z h' => ∃ u' g' s o cl, z = .inl (some (.ref N)) ∧ h' = sH b u' g' ∧ shR (u 0) 4 s o cl ∧ shI s o ∧ (∀ m : Nat, m < 4 → o m = 0) ∧ (∀ k : Nat, k < 4 → 0 ≤ cl k ∧ cl k ≤ 3) ∧ siP b u g N s cl u' g') 120 500 := by
  refine zMet.of (by decide) (Nat.le_of_ble_eq_true rfl) fun X K => ?_
  generalize hQ : (fun (z : zO) (h' : zH) => ∃ u' g' s o cl, z = .inl (some (.ref N)) ∧ h' = sH b u' g' ∧ shR (u 0) 4 s o cl ∧ shI s o ∧ (∀ m : Nat, m < 4 → o m = 0) ∧ (∀ k : Nat, k < 4 → 0 ≤ cl k ∧ cl k ≤ 3) ∧ siP b u g N s cl u' g') = Q
  have hq : ∀ u' g' s o cl, shR (u 0) 4 s o cl → shI s o → (∀ m : Nat, m < 4 → o m = 0) → (∀ k : Nat, k < 4 → 0 ≤ cl k ∧ cl k ≤ 3) → siP b u g N s cl u' g' → Q (.inl (some (.ref N))) (sH b u' g') := fun u' g' s o cl a1 a2 a3 a4 a5 => by rw [← hQ]; exact ⟨u', g', s, o, cl, rfl, rfl, a1, a2, a3, a4, a5⟩
  clear hQ
  have h53' : ∀ (s cl : Nat → Int) (u1 : tW) (g1 : zH), siP b u g N s cl u1 g1 → 0 ≤ u1 5 3 ∧ u1 5 3 ≤ 3000 := fun s cl u1 g1 h => by rw [h.2.2.1.2.2.1]; exact h53
  have h52' : ∀ (s cl : Nat → Int) (u1 : tW) (g1 : zH), siP b u g N s cl u1 g1 → u1 5 2 = -1 := fun s cl u1 g1 h => by rw [h.2.2.1.2.1]; exact h52
  -- the searches again
  have lre : ∀ (n a : Nat) (cl0 cl s2 : Nat → Int), n < 4 → a < 16 → (∀ k : Nat, k < n → (0 ≤ cl0 k ∧ cl0 k ≤ 3) ∧ cl k = cl0 k) → (∀ s u1 g1, reR (oB a) cl0 n s2 s → shI s (oB a) → siP b u g N s cl u1 g1 → ∀ env, zsub env [(0, .ref b), (1, .ref N), (2, .int (iI a)), (3, .int (iI n))] → zW X Q (sH b u1 g1) (1 + 24 * (n + 1)) (4 + 108 * (n + 1)) 125 env []) → ∀ (r k : Nat), k + r = n → ∀ s u1 g1, reR (oB a) cl0 k s2 s → shI s (oB a) → siP b u g N s cl u1 g1 → ∀ env, zsub env [(0, .ref b), (1, .ref N), (2, .int (iI a)), (3, .int (iI n)), (6, .int (iI k))] → zW X Q (sH b u1 g1) (1 + 24 * n + 18 + 2 * k) (4 + 108 * n + 78 + 10 * k) 103 env [] := by
    intro n a cl0 cl s2 hn4 ha hcl kont r
    induction r with
    | zero =>
      intro k hk s u1 g1 hR hs hP env he
      obtain rfl : k = n := by omega
      refine zW.cut he ?_
      have kk := kont s u1 g1 hR hs hP
      clear kont
      refine z_iload K dX2_shift_103 rfl ?_
      refine z_iload_n K dX2_shift_105 rfl rfl ?_
      refine j_icmp_ge (tgt := 125) K dX2_shift_106 rfl (by omega) (by omega) (fun c_106 => ?_) (fun c_106 => ?_)
      · exact zW.widen (by omega) (by omega) (kk _ ⟨rfl, rfl, rfl, rfl, trivial⟩)
      · exact absurd c_106 (by omega)
    | succ r ih =>
      intro k hk s u1 g1 hR hs hP env he
      refine zW.cut he ?_
      obtain ⟨hck, e8⟩ := hcl k (by omega)
      obtain ⟨e1, elo, hSO, hx, hgN, M, hM, hT1⟩ := id hP
      have em : (((cl0 k).toNat : Nat) : Int) = cl0 k := by omega
      have h5 := (hs.2.1 _ hck.1 hck.2).1
      have hnn : sOn s ((cl0 k).toNat : Nat) = (sOn s ((cl0 k).toNat : Nat)).toNat := by rw [em]; omega
      have hfe : ∃ c, isPm s (cl0 k).toNat (sOn s ((cl0 k).toNat : Nat)).toNat c ∧ ACy (sPut s (cl0 k).toNat (sOn s ((cl0 k).toNat : Nat)).toNat c) (oB a) := ⟨_, isPm.own hs.2.1 (by omega) hnn, by rw [sPut_i]; exact hs.2.2.1⟩
      have ho := x2_optimize (b := b) (u := u1) (g := g1) (N := M) (m := (cl0 k).toNat) (a := a) (n := (sOn s ((cl0 k).toNat : Nat)).toNat) hb (by omega) hT1 ha (by omega) (by rw [e1]; exact hs.1) (by rw [e1]; exact hs.2.1) (hP.bk hB hA hTp) (by rw [e1]; exact hnn) (h52' _ _ _ _ hP) (h53' _ _ _ _ hP) (by rw [e1]; exact hfe)
      rw [e1, em] at ho
      obtain ⟨c, hc, hca⟩ := hfe
      have nx : ∀ u2 g2 bm bo, bOf s (oB a) (cl0 k).toNat (sOn s (cl0 k)).toNat (fun _ => True) bm bo → oW s (cl0 k).toNat (sOn s (cl0 k)).toNat bo u1 u2 → zExt M g1 g2 → zTop g2 (M + 2) → ∀ env, zsub env [(0, .ref b), (1, .ref N), (2, .int (iI a)), (3, .int (iI n)), (6, .int (iI ((k : Int) + 1)))] → zW X Q (sH b u2 g2) (1 + 24 * n + 18 + 2 * (k + 1)) (4 + 108 * n + 78 + 10 * (k + 1)) 103 env [] := fun u2 g2 bm bo b1 b2 b3 b4 env he => by
        rw [← em] at b1 b2
        obtain ⟨z1, z2, z3, z4⟩ := shI.opt hs.1 hs.2.1 (oB_01 a) (by omega) hnn b1 hc hca
        exact ih (k + 1) (by omega) _ u2 g2 ⟨s, bm, hR, z3⟩ z4 (hP.op hM b2.1 (fun i hi => sPut_lo (by omega)) b2.2 b3 (by omega) b4) env he
      clear ih kont
      refine z_iload K dX2_shift_103 rfl ?_
      refine z_iload_n K dX2_shift_105 rfl rfl ?_
      refine j_icmp_ge (tgt := 125) K dX2_shift_106 rfl (by omega) (by omega) (fun c_106 => ?_) (fun c_106 => ?_)
      · exact absurd c_106 (by omega)
      · refine z_aload_n K dX2_shift_109 rfl rfl rfl ?_
        refine z_aload_n K dX2_shift_110 rfl rfl rfl ?_
        refine z_iload K dX2_shift_111 rfl ?_
        refine j_ild K ((sH_out (by omega)).trans hgN) (by omega) (by omega) dX2_shift_113 ?_
        rw [Int.toNat_natCast, e8]
        refine z_iload_n K dX2_shift_114 rfl rfl ?_
        refine z_callV K (ho) cV_X2_216_X2 (sH_shop) rfl rfl rfl (by omega) (by omega) (by omega) (Nat.le_of_ble_eq_true rfl) dX2_shift_115 (fun _ _ ⟨_, _, _, _, e, _⟩ => nomatch e) ?_
        rintro _ _ ⟨u2, g2, bm, bo, ez, rfl, -, hbo, -, hoW, hx2, ht2⟩
        cases ez
        refine z_pop K dX2_shift_118 rfl ?_
        refine j_iinc K dX2_shift_119 rfl (by decide) rfl ?_
        refine z_goto (tgt := 103) K dX2_shift_122 rfl ?_
        exact zW.widen (by omega) (by omega) (nx u2 g2 bm bo hbo hoW hx2 ht2 _ ⟨rfl, rfl, rfl, rfl, rfl, trivial⟩)
  -- which machine is the worst
  have lwr : ∀ (n a : Nat) (s cl : Nat → Int), n < 4 → a < 16 → shI s (oB a) → (∃ m : Nat, m < 4 ∧ oB a m ≠ 0) → (∀ (wst mst : Int) (u1 : tW) (g1 : zH), wrR s (oB a) 4 wst mst → 0 ≤ wst → wst ≤ 3 → oB a wst.toNat = 1 → siP b u g N s cl u1 g1 → ∀ env, zsub env [(0, .ref b), (1, .ref N), (2, .int (iI a)), (3, .int (iI n)), (4, .int (iI wst))] → zW X Q (sH b u1 g1) (1 + 24 * n + 16) (4 + 108 * n + 68) 78 env []) → ∀ (r m : Nat), m + r = 4 → ∀ (wst mst : Int) (u1 : tW) (g1 : zH), wrR s (oB a) m wst mst → ((wst = -1 ∧ mst = -1 ∧ ∀ i, i < m → oB a i = 0) ∨ (0 ≤ wst ∧ wst < m ∧ oB a wst.toNat = 1 ∧ 0 ≤ mst ∧ mst ≤ 10000)) → siP b u g N s cl u1 g1 → ∀ env, zsub env [(0, .ref b), (1, .ref N), (2, .int (iI a)), (3, .int (iI n)), (4, .int (iI wst)), (5, .int (iI mst)), (6, .int (iI m))] → zW X Q (sH b u1 g1) (1 + 24 * n + 4 * m) (4 + 108 * n + 17 * m) 23 env [] := by
    intro n a s cl hn4 ha hs hop kont r
    induction r with
    | zero =>
      intro m hm wst mst u1 g1 hR hag hP env he
      obtain rfl : m = 4 := by omega
      refine zW.cut he ?_
      have h4 : 0 ≤ wst ∧ wst ≤ 3 ∧ oB a wst.toNat = 1 := by
        rcases hag with ⟨-, -, z⟩ | ⟨z1, z2, z3, -⟩
        · obtain ⟨i, hi, hoi⟩ := hop
          exact absurd (z i hi) hoi
        · exact ⟨z1, by omega, z3⟩
      have kk := kont wst mst u1 g1 hR h4.1 h4.2.1 h4.2.2 hP
      refine z_iload K dX2_shift_23 rfl ?_
      refine j_iconst K dX2_shift_25 ?_
      refine j_icmp_ge (tgt := 78) K dX2_shift_26 rfl (by omega) (by omega) (fun c_26 => ?_) (fun c_26 => ?_)
      · exact zW.widen (by omega) (by omega) (kk _ ⟨rfl, rfl, rfl, rfl, rfl, trivial⟩)
      · exact absurd c_26 (by omega)
    | succ r ih =>
      intro m hm wst mst u1 g1 hR hag hP env he
      refine zW.cut he ?_
      have hom := oB_r a m
      obtain ⟨e1, elo, hSO, hx, hgN, M, hM, hT1⟩ := id hP
      have hob := oB_bit a ha m (by omega)
      have hof := oF_bit a ha m (by omega)
      have hoo := oB_oF ha (show m < 4 by omega)
      have skip : oB a m = 0 → ∀ env, zsub env [(0, .ref b), (1, .ref N), (2, .int (iI a)), (3, .int (iI n)), (4, .int (iI wst)), (5, .int (iI mst)), (6, .int (iI ((m : Int) + 1)))] → zW X Q (sH b u1 g1) (1 + 24 * n + 4 * (m + 1)) (4 + 108 * n + 17 * (m + 1)) 23 env [] := fun h0 env he => ih (m + 1) (by omega) wst mst u1 g1 ⟨wst, mst, hR, Or.inl ⟨h0, rfl, rfl⟩⟩ (hag.imp (fun z => ⟨z.1, z.2.1, fun i hi => by rcases (by omega : i < m ∨ i = m) with q | rfl; exact z.2.2 i q; exact h0⟩) (fun z => ⟨z.1, by omega, z.2.2⟩)) hP env he
      have h5 := (hs.2.1 m (by omega) (by omega)).1
      have hnn : sOn s m = (sOn s m).toNat := by omega
      obtain ⟨c, c1, c2⟩ := feas hs.1 hs.2.1 (m := m) (n := (sOn s m).toNat) (by omega) (by omega) hs.2.2.1
      rw [← hoo] at c2
      have ho := x2_optimum (b := b) (u := u1) (g := g1) (N := M) (m := m) (a := oF a m) (n := (sOn s m).toNat) hb (by omega) hT1 (oF_lt a ha m (by omega)) (by omega) (by rw [e1]; exact hs.1) (by rw [e1]; exact hs.2.1) (hP.bk hB hA hTp) (by rw [e1]; exact hnn) (h52' _ _ _ _ hP) (h53' _ _ _ _ hP)
      rw [e1] at ho
      have nx : oB a m = 1 → ∀ u2 g2 bm bo, (-1 ≤ bm ∧ bm ≤ 10000) → bOf s (oB (oF a m)) m (sOn s m).toNat (fun _ => True) bm bo → u2 0 = s → SO u1 u2 → zExt M g1 g2 → zTop g2 (M + 4) → ∀ w' m', w' = (if mst < bm then (m : Int) else wst) → m' = max mst bm → ∀ env, zsub env [(0, .ref b), (1, .ref N), (2, .int (iI a)), (3, .int (iI n)), (4, .int (iI w')), (5, .int (iI m')), (6, .int (iI ((m : Int) + 1)))] → zW X Q (sH b u2 g2) (1 + 24 * n + 4 * (m + 1)) (4 + 108 * n + 17 * (m + 1)) 23 env [] := fun h1 u2 g2 bm bo b0 b1 b2 b3 b4 b5 w' m' hw hm' env he => by
        obtain ⟨z1, z2, z3, z4⟩ := shI.opt hs.1 hs.2.1 (oB_01 _) (by omega) hnn b1 c1 c2
        rw [hoo] at z3
        refine ih (m + 1) (by omega) w' m' u2 g2 ⟨wst, mst, hR, Or.inr ⟨by omega, bm, _, z3, hw, hm'⟩⟩ (Or.inr ?_) (hP.op hM b2 (fun _ _ => rfl) b3 b4 (by omega) b5) env he
        rw [hw]
        split
        · exact ⟨by omega, by omega, by rw [Int.toNat_natCast]; exact h1, by omega, by omega⟩
        · rcases hag with ⟨y1, y2, -⟩ | ⟨y1, y2, y3, y4⟩
          · omega
          · exact ⟨y1, by omega, y3, by omega, by omega⟩
      have hgr : -1 ≤ mst ∧ mst ≤ 10000 := by omega
      clear ih kont
      refine z_iload K dX2_shift_23 rfl ?_
      refine j_iconst K dX2_shift_25 ?_
      refine j_icmp_ge (tgt := 78) K dX2_shift_26 rfl (by omega) (by omega) (fun c_26 => ?_) (fun c_26 => ?_)
      · exact absurd c_26 (by omega)
      · refine z_iload_n K dX2_shift_29 rfl rfl ?_
        refine z_iload K dX2_shift_30 rfl ?_
        refine z_ishr K dX2_shift_32 ?_
        refine j_iconst K dX2_shift_33 ?_
        refine z_iand K dX2_shift_34 ?_
        rw [hob]
        refine j_if_ne (tgt := 41) K dX2_shift_35 rfl (by omega) (fun c_35 => ?_) (fun c_35 => ?_)
        · refine z_aload_n K dX2_shift_41 rfl rfl rfl ?_
          refine z_iload K dX2_shift_42 rfl ?_
          refine z_iload_n K dX2_shift_44 rfl rfl ?_
          refine j_iconst K dX2_shift_45 ?_
          refine z_iload K dX2_shift_46 rfl ?_
          refine z_ishl K dX2_shift_48 ?_
          refine j_iconst K dX2_shift_49 ?_
          refine z_ixor K dX2_shift_50 ?_
          refine z_iand K dX2_shift_51 ?_
          rw [hof]
          refine z_callV K (ho) cV_X2_219_X2 (sH_shop) rfl rfl rfl (by omega) (by omega) (by omega) (Nat.le_of_ble_eq_true rfl) dX2_shift_52 (fun _ _ ⟨_, _, _, _, e, _⟩ => nomatch e) ?_
          rintro _ _ ⟨u2, g2, bm, bo, ez, rfl, hbr, hbo, he2, hSO2, hx2, ht2⟩
          cases ez
          refine z_istore K dX2_shift_55 (by decide) rfl ?_
          refine z_iload K dX2_shift_57 rfl ?_
          refine z_iload K dX2_shift_59 rfl ?_
          refine j_icmp_le (tgt := 72) K dX2_shift_61 rfl (by omega) (by omega) (fun c_61 => ?_) (fun c_61 => ?_)
          · have zz := nx (by omega) u2 g2 bm bo hbr hbo he2 hSO2 hx2 ht2 wst mst (by rw [if_neg (by omega)]) (by omega)
            refine j_iinc K dX2_shift_72 rfl (by decide) rfl ?_
            refine z_goto (tgt := 23) K dX2_shift_75 rfl ?_
            exact zW.widen (by omega) (by omega) (zz _ ⟨rfl, rfl, rfl, rfl, rfl, rfl, rfl, trivial⟩)
          · have zz := nx (by omega) u2 g2 bm bo hbr hbo he2 hSO2 hx2 ht2 m bm (by rw [if_pos (by omega)]) (by omega)
            refine z_iload K dX2_shift_64 rfl ?_
            refine z_istore K dX2_shift_66 (by decide) rfl ?_
            refine z_iload K dX2_shift_68 rfl ?_
            refine z_istore K dX2_shift_70 (by decide) rfl ?_
            refine j_iinc K dX2_shift_72 rfl (by decide) rfl ?_
            refine z_goto (tgt := 23) K dX2_shift_75 rfl ?_
            exact zW.widen (by omega) (by omega) (zz _ ⟨rfl, rfl, rfl, rfl, rfl, rfl, rfl, trivial⟩)
        · have zz := skip (by omega)
          refine z_goto (tgt := 72) K dX2_shift_38 rfl ?_
          refine j_iinc K dX2_shift_72 rfl (by decide) rfl ?_
          refine z_goto (tgt := 23) K dX2_shift_75 rfl ?_
          exact zW.widen (by omega) (by omega) (zz _ ⟨rfl, rfl, rfl, rfl, rfl, rfl, rfl, trivial⟩)
  have lrd : ∀ (r n : Nat), n + r = 4 → ∀ (a : Nat) (s cl : Nat → Int) (u1 : tW) (g1 : zH), a < 16 → shR (u 0) n s (oB a) cl → shI s (oB a) → oB a 0 + oB a 1 + oB a 2 + oB a 3 = 4 - n → (∀ k : Nat, k < n → 0 ≤ cl k ∧ cl k ≤ 3) → siP b u g N s cl u1 g1 → ∀ env, zsub env [(0, .ref b), (1, .ref N), (2, .int (iI a)), (3, .int (iI n))] → zW X Q (sH b u1 g1) (1 + 24 * n) (4 + 108 * n) 9 env [] := by
    intro r
    induction r with
    | zero =>
      intro n hn a s cl u1 g1 ha hR hs hct hcl hP env he
      obtain rfl : n = 4 := by omega
      refine zW.cut he ?_
      have h0 := oB_r a 0
      have h1 := oB_r a 1
      have h2 := oB_r a 2
      have h3 := oB_r a 3
      have hz : ∀ m : Nat, m < 4 → oB a m = 0 := fun m hm => by rcases (by omega : m = 0 ∨ m = 1 ∨ m = 2 ∨ m = 3) with rfl | rfl | rfl | rfl <;> omega
      have hfin := hq u1 g1 s (oB a) cl hR hs hz hcl hP
      clear lre lwr
      refine z_iload_n K dX2_shift_9 rfl rfl ?_
      refine j_iconst K dX2_shift_10 ?_
      refine j_icmp_ge (tgt := 131) K dX2_shift_11 rfl (by omega) (by omega) (fun c_11 => ?_) (fun c_11 => ?_)
      · refine z_aload_n K dX2_shift_131 rfl rfl rfl ?_
        exact z_aret K (by simp) rfl (by omega) (by omega) (hfin) dX2_shift_132
      · exact absurd c_11 (by omega)
    | succ r ih =>
      intro n hn a s cl u1 g1 ha hR hs hct hcl hP env he
      refine zW.cut he ?_
      have h0 := oB_r a 0
      have h1 := oB_r a 1
      have h2 := oB_r a 2
      have h3 := oB_r a 3
      have hop : ∃ m : Nat, m < 4 ∧ oB a m ≠ 0 := by
        rcases (by omega : oB a 0 ≠ 0 ∨ oB a 1 ≠ 0 ∨ oB a 2 ≠ 0 ∨ oB a 3 ≠ 0) with z | z | z | z
        · exact ⟨0, by omega, z⟩
        · exact ⟨1, by omega, z⟩
        · exact ⟨2, by omega, z⟩
        · exact ⟨3, by omega, z⟩
      have k78 : ∀ (wst mst : Int) (u2 : tW) (g2 : zH), wrR s (oB a) 4 wst mst → 0 ≤ wst → wst ≤ 3 → oB a wst.toNat = 1 → siP b u g N s cl u2 g2 → ∀ env, zsub env [(0, .ref b), (1, .ref N), (2, .int (iI a)), (3, .int (iI n)), (4, .int (iI wst))] → zW X Q (sH b u2 g2) (1 + 24 * n + 16) (4 + 108 * n + 68) 78 env [] := by
        intro wst mst u2 g2 hwr w0 w3 w1 hP2 env he
        refine zW.cut he ?_
        obtain ⟨e1, elo, hSO, hx, hgN, M, hM, hT1⟩ := id hP2
        obtain ⟨m, rfl⟩ : ∃ m : Nat, wst = m := ⟨wst.toNat, by omega⟩
        rw [Int.toNat_natCast] at w1
        have hof := oF_bit a ha m (by omega)
        have hoo := oB_oF ha (show m < 4 by omega)
        have ha' := oF_lt a ha m (by omega)
        have h5 := (hs.2.1 m (by omega) (by omega)).1
        have hnn : sOn s m = (sOn s m).toNat := by omega
        obtain ⟨c, c1, c2⟩ := feas hs.1 hs.2.1 (m := m) (n := (sOn s m).toNat) (by omega) (by omega) hs.2.2.1
        rw [← hoo] at c2
        have ho := x2_optimize (b := b) (u := u2) (g := g2) (N := M) (m := m) (a := oF a m) (n := (sOn s m).toNat) hb (by omega) hT1 ha' (by omega) (by rw [e1]; exact hs.1) (by rw [e1]; exact hs.2.1) (hP2.bk hB hA hTp) (by rw [e1]; exact hnn) (h52' _ _ _ _ hP2) (h53' _ _ _ _ hP2) (by rw [e1]; exact ⟨c, c1, c2⟩)
        rw [e1] at ho
        have hct' : oB (oF a m) 0 + oB (oF a m) 1 + oB (oF a m) 2 + oB (oF a m) 3 = 4 - (n + 1) := by
          rw [hoo]
          rcases (by omega : m = 0 ∨ m = 1 ∨ m = 2 ∨ m = 3) with rfl | rfl | rfl | rfl
          · rw [sup_s, sup_n (by decide), sup_n (by decide), sup_n (by decide)]; omega
          · rw [sup_n (by decide), sup_s, sup_n (by decide), sup_n (by decide)]; omega
          · rw [sup_n (by decide), sup_n (by decide), sup_s, sup_n (by decide)]; omega
          · rw [sup_n (by decide), sup_n (by decide), sup_n (by decide), sup_s]; omega
        have hcl' : ∀ k : Nat, k < n + 1 → 0 ≤ sup cl n m k ∧ sup cl n m k ≤ 3 := fun k hk => by
          by_cases e : k = n
          · rw [e, sup_s]; omega
          · rw [sup_n e]; exact hcl k (by omega)
        have nx : ∀ u3 g3 bm bo, bOf s (oB (oF a m)) m (sOn s m).toNat (fun _ => True) bm bo → oW s m (sOn s m).toNat bo u2 u3 → zExt M g2 g3 → zTop g3 (M + 2) → ∀ env, zsub env [(0, .ref b), (1, .ref N), (2, .int (iI (oF a m))), (3, .int (iI n)), (6, .int (iI 0))] → zW X Q (sH b u3 (zup g3 N (aI 4 (sup cl n m)))) (1 + 24 * n + 18 + 2 * 0) (4 + 108 * n + 78 + 10 * 0) 103 env [] := by
          intro u3 g3 bm bo b1 b2 b3 b4
          obtain ⟨z1, z2, z3, z4⟩ := shI.opt hs.1 hs.2.1 (oB_01 _) (by omega) hnn b1 c1 c2
          obtain ⟨d1, d2, d3, d4, d5, -⟩ := hP2.op hM b2.1 (fun i hi => sPut_lo (by omega)) b2.2 b3 (show M ≤ M + 2 by omega) b4
          have hP3 : siP b u g N (sPut s m (sOn s m).toNat bo) (sup cl n m) u3 (zup g3 N (aI 4 (sup cl n m))) := ⟨d1, d2, d3, fun i hi => (zup_ne (by omega)).trans (d4 i hi), zup_at _ _ _, M + 2, by omega, fun i hi => (zup_ne (by omega)).trans (b4 i hi)⟩
          refine lre n (oF a m) cl (sup cl n m) (sPut s m (sOn s m).toNat bo) (by omega) ha' (fun k hk => ⟨hcl k hk, sup_n (by omega)⟩) (fun s3 u4 g4 r1 r2 r3 env he => ?_) n 0 (by omega) _ u3 _ rfl z4 hP3
          refine zW.cut he ?_
          have kk := ih (n + 1) (by omega) (oF a m) s3 (sup cl n m) u4 g4 ha' ⟨s, oB a, cl, m, mst, bm, _, hR, hwr, by rw [Int.toNat_natCast]; exact hoo, by rw [Int.toNat_natCast]; exact z3, r1, rfl⟩ r2 hct' hcl' r3
          clear lre lwr ih
          refine j_iinc K dX2_shift_125 rfl (by decide) rfl ?_
          refine z_goto (tgt := 9) K dX2_shift_128 rfl ?_
          exact kk _ ⟨rfl, rfl, rfl, rfl, trivial⟩
        clear lre lwr ih
        refine z_iload_n K dX2_shift_78 rfl rfl ?_
        refine j_iconst K dX2_shift_79 ?_
        refine z_iload K dX2_shift_80 rfl ?_
        refine z_ishl K dX2_shift_82 ?_
        refine j_iconst K dX2_shift_83 ?_
        refine z_ixor K dX2_shift_84 ?_
        refine z_iand K dX2_shift_85 ?_
        rw [hof]
        refine z_istore_n K dX2_shift_86 rfl (by decide) rfl ?_
        refine z_aload_n K dX2_shift_87 rfl rfl rfl ?_
        refine z_iload K dX2_shift_88 rfl ?_
        refine z_iload_n K dX2_shift_90 rfl rfl ?_
        refine z_callV K (ho) cV_X2_216_X2 (sH_shop) rfl rfl rfl (by omega) (by omega) (by omega) (Nat.le_of_ble_eq_true rfl) dX2_shift_91 (fun _ _ ⟨_, _, _, _, e, _⟩ => nomatch e) ?_
        rintro _ _ ⟨u3, g3, bm, bo, ez, rfl, -, hbo, -, hoW, hx3, ht3⟩
        cases ez
        refine z_pop K dX2_shift_94 rfl ?_
        refine z_aload_n K dX2_shift_95 rfl rfl rfl ?_
        refine z_iload_n K dX2_shift_96 rfl rfl ?_
        refine z_iload K dX2_shift_97 rfl ?_
        refine j_istE K ((sH_out (by omega)).trans ((hx3 N (by omega)).trans hgN)) (by omega) (by omega) (by omega) dX2_shift_99 (sH_upo (by omega)) ?_
        rw [Int.toNat_natCast]
        refine j_iconst K dX2_shift_100 ?_
        refine z_istore K dX2_shift_101 (by decide) rfl ?_
        exact zW.widen (by omega) (by omega) (nx u3 g3 bm bo hbo hoW hx3 ht3 _ ⟨rfl, rfl, rfl, rfl, rfl, trivial⟩)
      have hgo := lwr n a s cl (by omega) ha hs hop k78 4 0 (by omega) (-1) (-1) u1 g1 ⟨rfl, rfl⟩ (Or.inl ⟨rfl, rfl, fun i hi => by omega⟩) hP
      clear lre lwr ih k78
      refine z_iload_n K dX2_shift_9 rfl rfl ?_
      refine j_iconst K dX2_shift_10 ?_
      refine j_icmp_ge (tgt := 131) K dX2_shift_11 rfl (by omega) (by omega) (fun c_11 => ?_) (fun c_11 => ?_)
      · exact absurd c_11 (by omega)
      · refine j_iconst K dX2_shift_14 ?_
        refine z_istore K dX2_shift_15 (by decide) rfl ?_
        refine j_iconst K dX2_shift_17 ?_
        refine z_istore K dX2_shift_18 (by decide) rfl ?_
        refine j_iconst K dX2_shift_20 ?_
        refine z_istore K dX2_shift_21 (by decide) rfl ?_
        exact zW.widen (by omega) (by omega) (hgo _ ⟨rfl, rfl, rfl, rfl, rfl, rfl, rfl, trivial⟩)
  have hs0 : shI (u 0) (oB 15) := ⟨hA, hO, hac.opn hA (fun m hm => by rw [oB_15 m hm]; decide), oB_01 15⟩
  have hgo := lrd 4 0 (by omega) 15 (u 0) (fun _ => 0) u (zup g N (aI 4 fun _ => 0)) (by decide) ⟨rfl, fun m hm => oB_15 m hm⟩ hs0 (by rw [oB_15 0 (by decide), oB_15 1 (by decide), oB_15 2 (by decide), oB_15 3 (by decide)]; rfl) (fun k hk => by omega) ⟨rfl, fun _ _ => rfl, SO.rf, fun i hi => zup_ne (by omega), zup_at _ _ _, N + 1, by omega, fun i hi => (zup_ne (by omega)).trans (hTp i (by omega))⟩
  have hgo : ∀ env, zsub env [(0, .ref b), (1, .ref N), (2, .int (iI 15)), (3, .int (iI 0))] → zW X Q (sH b u (zup g N (aI 4 fun _ => 0))) 1 4 9 env [] := hgo
  clear lre lwr lrd
  refine j_iconst K dX2_shift_0 ?_
  refine z_newi K (N) (by omega) (by omega) ((sH_out (by omega)).trans (hTp N (Nat.le_refl N))) (by omega) (by omega) (by omega) dX2_shift_1 ?_
  rw [show (4 : Int).toNat = 4 from rfl, aI_zero, sH_upo (by omega)]
  refine z_astore_n K dX2_shift_3 rfl rfl (by decide) rfl ?_
  refine j_bipush K dX2_shift_4 (by decide +kernel) ?_
  refine z_istore_n K dX2_shift_6 rfl (by decide) rfl ?_
  refine j_iconst K dX2_shift_7 ?_
  refine z_istore_n K dX2_shift_8 rfl (by decide) rfl ?_
  exact hgo _ ⟨rfl, rfl, rfl, rfl, trivial⟩
end XSi

