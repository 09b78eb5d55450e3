/-! ===== the component's operations: failure, save, restore ===== -/
/-- what is known of a class of failures -/
def fcF (ci j : Nat) : Prop := ∃ C, (zcl[ci]?).map (fun q => q.1) = some C ∧ Jvm.Cond.castable C "SetupJobShop$Failure" ∈ lw_tbl ∧ zcV RX1 339 C yX8_code cX8_code 1 (some .int) 0 ∧ thC ci j ∧ zthr ci C
theorem fcl.F {ci j : Nat} (h : fcl ci j) : fcF ci j := by
  rcases h with ⟨rfl, rfl⟩ | ⟨rfl | rfl | rfl | rfl, rfl⟩
  · exact ⟨_, rfl, q1082, cV_X1_339_X8, thc_7, thr_7⟩
  · exact ⟨_, rfl, q2285, cV_X1_339_X9, thc_8, thr_8⟩
  · exact ⟨_, rfl, q2287, cV_X1_339_X15, thc_14, thr_14⟩
  · exact ⟨_, rfl, q2284, cV_X1_339_X17, thc_16, thr_16⟩
  · exact ⟨_, rfl, q2286, cV_X1_339_X18, thc_17, thr_17⟩
section XP7
variable {b N : Nat} {u w : tW} {g : zH}
theorem x1_failure {k : Int} (hC : CG b N u g w) (hk : i32 k) : zMet yX1_failure (ws_ yX1_failure cX1_failure 4 (some .int)) 7 [.ref 1040, .int (iI k)] (sH b u g) (cQ (sH b u g) (pubQ w (tcFailure k) (fun v w' => v = (if k < w 7 0 then w 6 k.toNat else if k = 0 then 0 else -1) ∧ w' = tset w 3 0 0)) (cdA 22 99 99)) 1 6 := by
  have n8 := hC.n8
  obtain ⟨a1, a2, a3, a4, a5, a6, a7, a8, a9, a10, sv, T, fl, cl, e1, e2, e5, e6, e7⟩ := id hC
  have hx : sH b u g 1040 = some (oX b sv T fl cl (w 10 0)) := (sH_out (by omega)).trans e1
  have kc := fun v hv => x1_check (h := sH b u g) (N := N) (v := v) hC.am hv hC.fr n8.2.2.2
  generalize hR : pubQ w (tcFailure k) (fun v w' => v = (if k < w 7 0 then w 6 k.toNat else if k = 0 then 0 else -1) ∧ w' = tset w 3 0 0) = R
  have hex : k < 0 → cQ (sH b u g) R (cdA 22 99 99) (.inr N) (zup (sH b u g) N (oEx 22 (sH b u g) N)) := fun ck => cQ.ex hC hC.lo (by decide) (fun v' w' q => by rw [← hR] at q; exact pubQ.ex q (if_pos ck) (by decide))
  have hok : 0 ≤ k → ∀ v : Int, (if k < w 7 0 then w 6 k.toNat else if k = 0 then 0 else -1) = v → cQ (sH b u g) R (cdA 22 99 99) (.inl (some (.int (iI v)))) (sH b u g) := fun ck v ev => cQ.ok hC hC.lo (fun v' w' q => by
    rw [← hR] at q
    obtain ⟨q1, q2⟩ := q.1 (if_neg (by omega))
    rw [q1, q2, ev]
    exact ⟨set3_3, rfl, sw.set, set3_0⟩)
  refine zMet.of (by decide) (Nat.le_of_ble_eq_true rfl) fun X K => ?_
  have bad : k < 0 → ∀ env, zsub env [] → zW X (cQ (sH b u g) R (cdA 22 99 99)) (sH b u g) 0 0 8 env [] := by
    intro h1 env he
    refine zW.cut he ?_
    have kc0 := kc 0 (by omega)
    refine j_iconst K dX1_failure_8 ?_
    refine z_callS K (kc0) cS_X1_80 rfl rfl (by omega) (by omega) (by omega) (Nat.le_of_ble_eq_true rfl) dX1_failure_9 (ckX fun ck_9 => z_out K rfl (by omega) (by omega) (hex h1)) (ckK fun ck_9 => ?_)
    exact absurd rfl ck_9
  have k52n : 0 ≤ k → (if k < w 7 0 then w 6 k.toNat else if k = 0 then 0 else -1) = -1 → ∀ env, zsub env [(2, .null)] → zW X (cQ (sH b u g) R (cdA 22 99 99)) (sH b u g) 1 6 52 env [] := by
    intro ck ev env he
    refine zW.cut he ?_
    have hq := hok ck _ ev
    refine z_aload_n K dX1_failure_52 rfl rfl rfl ?_
    refine z_instN K dX1_failure_53 ?_
    refine j_if_eq (tgt := 71) K dX1_failure_56 rfl (by omega) (fun c_56 => ?_) (fun c_56 => ?_)
    · refine j_iconst K dX1_failure_71 ?_
      exact z_iret K (by omega) (by omega) (hq) dX1_failure_72
    · exact absurd rfl c_56
  have main : 0 ≤ k → ∀ env, zsub env [(0, .ref 1040), (1, .int (iI k))] → zW X (cQ (sH b u g) R (cdA 22 99 99)) (sH b u g) 1 6 12 env [] := by
    intro ck env he
    refine zW.cut he ?_
    rcases e6 with ⟨z7, rfl⟩ | ⟨n, q0, z7, rfl, hc⟩
    · have h0 : k = 0 → cQ (sH b u g) R (cdA 22 99 99) (.inl (some (.int (iI 0)))) (sH b u g) := fun z => hok ck 0 (by rw [if_neg (by omega), if_pos z])
      have h1 : k ≠ 0 → (if k < w 7 0 then w 6 k.toNat else if k = 0 then 0 else -1) = -1 := fun z => by rw [if_neg (by omega), if_neg z]
      refine z_aload_n K dX1_failure_12 rfl rfl rfl ?_
      refine z_get K fd_X1_228_1 (hx) rfl dX1_failure_13 ?_
      refine z_ifnonnullN K dX1_failure_16 ?_
      refine z_iload_n K dX1_failure_19 rfl rfl ?_
      refine j_if_ne (tgt := 25) K dX1_failure_20 rfl (by omega) (fun c_20 => ?_) (fun c_20 => ?_)
      · refine z_aload_n K dX1_failure_25 rfl rfl rfl ?_
        refine z_get K fd_X1_228_1 (hx) rfl dX1_failure_26 ?_
        refine z_astore_n K dX1_failure_29 rfl rfl (by decide) rfl ?_
        refine j_iconst K dX1_failure_30 ?_
        refine z_istore_n K dX1_failure_31 rfl (by decide) rfl ?_
        refine z_iload_n K dX1_failure_32 rfl rfl ?_
        refine z_iload_n K dX1_failure_33 rfl rfl ?_
        refine j_icmp_ge (tgt := 52) K dX1_failure_34 rfl (by omega) (by omega) (fun c_34 => ?_) (fun c_34 => ?_)
        · exact absurd c_34 (by omega)
        · refine z_aload_n K dX1_failure_37 rfl rfl rfl ?_
          refine z_ifnullN (tgt := 52) K dX1_failure_38 rfl ?_
          exact k52n ck (h1 (by omega)) _ ⟨rfl, trivial⟩
      · refine j_iconst K dX1_failure_23 ?_
        exact z_iret K (by omega) (by omega) (h0 (by omega)) dX1_failure_24
    · have k52q : ∀ (q p : Nat) (c : Int), fO b g q p c → (if k < w 7 0 then w 6 k.toNat else if k = 0 then 0 else -1) = c → ∀ env, zsub env [(2, .ref q)] → zW X (cQ (sH b u g) R (cdA 22 99 99)) (sH b u g) 1 6 52 env [] := by
        intro q p c hO ev env he
        refine zW.cut he ?_
        obtain ⟨ha, ci, j, l, hf, hg, hl0, hlj⟩ := hO
        obtain ⟨C, f1, f2, f3, f4, f5⟩ := hf.F
        have hg' : sH b u g q = some (.inr (ci, l)) := (sH_out ha.2).trans hg
        have hq := hok ck _ ev
        have kco := x8_code f4 hg' hlj
        refine z_aload_n K dX1_failure_52 rfl rfl rfl ?_
        refine z_instY K hg' f1 q1769 f2 dX1_failure_53 ?_
        refine j_if_eq (tgt := 71) K dX1_failure_56 rfl (by omega) (fun c_56 => ?_) (fun c_56 => ?_)
        · exact absurd c_56 (by decide)
        · refine z_aload_n K dX1_failure_59 rfl rfl rfl ?_
          refine z_castY K hg' f1 q1769 f2 dX1_failure_60 ?_
          refine z_astore_n K dX1_failure_63 rfl rfl (by decide) rfl ?_
          refine z_aload_n K dX1_failure_64 rfl rfl rfl ?_
          refine z_callV K kco f3 hg' f1 rfl rfl (by omega) (by omega) (by omega) (Nat.le_of_ble_eq_true rfl) dX1_failure_65 zrX (zrK ?_)
          refine z_goto (tgt := 72) K dX1_failure_68 rfl ?_
          exact z_iret K (by omega) (by omega) (hq) dX1_failure_72
      have k32n : ∀ i : Nat, (i : Int) = n + 1 → (i : Int) ≤ k → ∀ env, zsub env [(1, .int (iI k)), (2, .null), (3, .int (iI i))] → zW X (cQ (sH b u g) R (cdA 22 99 99)) (sH b u g) 1 6 32 env [] := by
        intro i hi hik env he
        refine zW.cut he ?_
        have h1 : (if k < w 7 0 then w 6 k.toNat else if k = 0 then 0 else -1) = -1 := by rw [if_neg (by omega), if_neg (by omega)]
        refine z_iload_n K dX1_failure_32 rfl rfl ?_
        refine z_iload_n K dX1_failure_33 rfl rfl ?_
        refine j_icmp_ge (tgt := 52) K dX1_failure_34 rfl (by omega) (by omega) (fun c_34 => ?_) (fun c_34 => ?_)
        · exact k52n ck h1 _ ⟨rfl, trivial⟩
        · refine z_aload_n K dX1_failure_37 rfl rfl rfl ?_
          refine z_ifnullN (tgt := 52) K dX1_failure_38 rfl ?_
          exact k52n ck h1 _ ⟨rfl, trivial⟩
      have lp : ∀ (m i q : Nat), fC b g (w 6) m i q → i + m = n → (i : Int) ≤ k → ∀ env, zsub env [(1, .int (iI k)), (2, .ref q), (3, .int (iI i))] → zW X (cQ (sH b u g) R (cdA 22 99 99)) (sH b u g) 1 6 32 env [] := by
        intro m
        induction m with
        | zero =>
          intro i q hc hi hik env he
          refine zW.cut he ?_
          have hO : fO b g q q (w 6 i) := hc
          obtain ⟨ha, ci, j, l, hf, hg, hl0, hlj⟩ := id hO
          obtain ⟨C, f1, f2, f3, f4, f5⟩ := hf.F
          have hg' : sH b u g q = some (.inr (ci, l)) := (sH_out ha.2).trans hg
          have ev : (i : Int) = k → (if k < w 7 0 then w 6 k.toNat else if k = 0 then 0 else -1) = w 6 i := fun z => by rw [if_pos (by omega), ← z, Int.toNat_natCast]
          refine z_iload_n K dX1_failure_32 rfl rfl ?_
          refine z_iload_n K dX1_failure_33 rfl rfl ?_
          refine j_icmp_ge (tgt := 52) K dX1_failure_34 rfl (by omega) (by omega) (fun c_34 => ?_) (fun c_34 => ?_)
          · exact k52q q q _ hO (ev (by omega)) _ ⟨rfl, trivial⟩
          · refine z_aload_n K dX1_failure_37 rfl rfl rfl ?_
            refine z_ifnull K dX1_failure_38 ?_
            refine z_aload_n K dX1_failure_41 rfl rfl rfl ?_
            refine z_cause K f5 q1755 hg' (by have := ha.1; omega) hl0 rfl (fun b e z => absurd (by cases e; rfl) z) (by omega) (Nat.le_of_ble_eq_true rfl) dX1_failure_42 ?_
            rw [if_pos rfl]
            refine z_astore_n K dX1_failure_45 rfl rfl (by decide) rfl ?_
            refine j_iinc K dX1_failure_46 rfl (by decide) rfl ?_
            refine z_goto (tgt := 32) K dX1_failure_49 rfl ?_
            exact k32n (i + 1) (by omega) (by omega) _ ⟨rfl, rfl, rfl, trivial⟩
        | succ m ih =>
          intro i q hc hi hik env he
          refine zW.cut he ?_
          obtain ⟨p, hpq, hO, hc'⟩ := hc
          obtain ⟨ha, ci, j, l, hf, hg, hl0, hlj⟩ := id hO
          obtain ⟨C, f1, f2, f3, f4, f5⟩ := hf.F
          have hg' : sH b u g q = some (.inr (ci, l)) := (sH_out ha.2).trans hg
          have hp8 : 8 < p := by
            cases m with
            | zero => have hz : fO b g p p _ := hc'; have := hz.1.1; omega
            | succ m => obtain ⟨_, _, hz, _⟩ := hc'; have := hz.1.1; omega
          have ev : (i : Int) = k → (if k < w 7 0 then w 6 k.toNat else if k = 0 then 0 else -1) = w 6 i := fun z => by rw [if_pos (by omega), ← z, Int.toNat_natCast]
          refine z_iload_n K dX1_failure_32 rfl rfl ?_
          refine z_iload_n K dX1_failure_33 rfl rfl ?_
          refine j_icmp_ge (tgt := 52) K dX1_failure_34 rfl (by omega) (by omega) (fun c_34 => ?_) (fun c_34 => ?_)
          · exact k52q q p _ hO (ev (by omega)) _ ⟨rfl, trivial⟩
          · refine z_aload_n K dX1_failure_37 rfl rfl rfl ?_
            refine z_ifnull K dX1_failure_38 ?_
            refine z_aload_n K dX1_failure_41 rfl rfl rfl ?_
            refine z_cause K f5 q1755 hg' (by have := ha.1; omega) hl0 rfl (fun b e _ => by cases e; omega) (by omega) (Nat.le_of_ble_eq_true rfl) dX1_failure_42 ?_
            rw [if_neg (fun e => by cases e; exact hpq rfl)]
            refine z_astore_n K dX1_failure_45 rfl rfl (by decide) rfl ?_
            refine j_iinc K dX1_failure_46 rfl (by decide) rfl ?_
            refine z_goto (tgt := 32) K dX1_failure_49 rfl ?_
            exact ih (i + 1) p hc' (by omega) (by omega) _ ⟨rfl, rfl, rfl, trivial⟩
      refine z_aload_n K dX1_failure_12 rfl rfl rfl ?_
      refine z_get K fd_X1_228_1 (hx) rfl dX1_failure_13 ?_
      refine z_ifnonnull (tgt := 25) K dX1_failure_16 rfl ?_
      refine z_aload_n K dX1_failure_25 rfl rfl rfl ?_
      refine z_get K fd_X1_228_1 (hx) rfl dX1_failure_26 ?_
      refine z_astore_n K dX1_failure_29 rfl rfl (by decide) rfl ?_
      refine j_iconst K dX1_failure_30 ?_
      refine z_istore_n K dX1_failure_31 rfl (by decide) rfl ?_
      exact lp n 0 q0 hc (by omega) ck _ ⟨rfl, rfl, rfl, trivial⟩
  have kc1 := kc 1 (by omega)
  refine z_iload_n K dX1_failure_0 rfl rfl ?_
  refine j_if_lt (tgt := 8) K dX1_failure_1 rfl (by omega) (fun c_1 => ?_) (fun c_1 => ?_)
  · exact bad (by omega) _ trivial
  · refine j_iconst K dX1_failure_4 ?_
    refine z_goto (tgt := 9) K dX1_failure_5 rfl ?_
    refine z_callS K (kc1) cS_X1_80 rfl rfl (by omega) (by omega) (by omega) (Nat.le_of_ble_eq_true rfl) dX1_failure_9 (ckX fun ck_9 => absurd (by decide) ck_9) (ckK fun ck_9 => ?_)
    exact zW.widen (by omega) (by omega) (main (by omega) _ ⟨rfl, rfl, trivial⟩)
def savQ (w : tW) (w' : tW) : Prop := w' = tset (wF (tset w 3 0 0) 1 (w 0)) 2 0 1
theorem x1_save (hC : CG b N u g w) (hn : ∀ m fs, 1000 ≤ m → m < 1040 → g m ≠ some (.inr (6, fs))) : zMet yX1_save (ws_ yX1_save cX1_save 1 none) 10 [.ref 1040] (sH b u g) (cQv (sH b u g) (savQ w) (cdA 99 99 99)) 121 1713 := by
  have n8 := hC.n8
  obtain ⟨a1, a2, a3, a4, a5, a6, a7, a8, a9, a10, sv, T, fl, cl, e1, e2, e5, e6, e7⟩ := id hC
  have hx : sH b u g 1040 = some (oX b sv T fl cl (w 10 0)) := (sH_out (by omega)).trans e1
  have hxn : ∀ c, zup (sH b u g) N c 1040 = some (oX b sv T fl cl (w 10 0)) := fun c => (zup_ne (by omega)).trans hx
  have hy : ∀ u' g', zExt N g g' → sH N u' (sH b u g') 1040 = some (oX b sv T fl cl (w 10 0)) := fun u' g' h => (sH_out (by omega)).trans ((sH_out (by omega)).trans ((h 1040 (by omega)).trans e1))
  have hset : ∀ u' g', zup (sH N u' (sH b u g')) 1040 (oX b (.ref N) T fl cl (w 10 0)) = sH b u (zup (sH N u' g') 1040 (oX b (.ref N) T fl cl (w 10 0))) := fun u' g' => by rw [sH_comm (Or.inr a2), sH_upo (by omega)]
  have kcp := x2_copy (b2 := b) (u2 := u) (b := N) (g := g) n8.1 a2 a3 a4 hC.A hC.O a6.2.2.2 a7
  have fin : ∀ (u' : tW) (g' : zH), u' 0 = u 0 → u' 8 = u 8 → (∀ m, m < 4 → u' 7 m = if u 0 (151 + m) = 0 then 0 else 1) → zExt N g g' → zTop g' (N + 76) → cQv (sH b u g) (savQ w) (cdA 99 99 99) (.inl none) (sH b u (zup (sH N u' g') 1040 (oX b (.ref N) T fl cl (w 10 0)))) := by
    intro u' g' p0 p8 p7 hge hgt
    generalize hG : zup (sH N u' g') 1040 (oX b (.ref N) T fl cl (w 10 0)) = G
    have low : ∀ m, m < N → m ≠ 1040 → G m = g m := fun m q1 q2 => by rw [← hG]; exact (zup_ne q2).trans ((sH_out (Or.inl q1)).trans (hge m q1))
    refine ⟨fun m hm => (sH_out (by omega)).trans ((low m (by omega) (by omega)).trans (hC.lo m hm).symm), Or.inl ⟨rfl, fun w' r => ?_⟩⟩
    unfold savQ at r
    have ew : ∀ q, q ≠ 1 → q ≠ 2 → q ≠ 3 → w' q = w q := fun q q1 q2 q3 => by rw [r, tsG q2, wF_n q1, tsG q3]
    have e31 : w' 1 = w 0 := by rw [r, tsG (by decide), wF_s]
    have bk : ∀ m i : Int, 0 ≤ m → m ≤ 3 → 0 ≤ i → i < u 0 (151 + m).toNat → (u 8 (3 * m.toNat + i.toNat)).toNat < N ∧ aw b (u 8 (3 * m.toNat + i.toNat)).toNat ∧ G (u 8 (3 * m.toNat + i.toNat)).toNat = some (.inr (6, [.int (iI (u 0 (155 + 3 * m + i).toNat)), .int (iI (u 0 (167 + 3 * m + i).toNat))])) := fun m i m0 m1 i0 i1 => by
      obtain ⟨c1, c2, c3, c4⟩ := a7 m i m0 m1 i0 i1
      have lt := a4.lt c4
      have h40 : (u 8 (3 * m.toNat + i.toNat)).toNat ≠ 1040 := fun e => by rw [e, e1] at c4; cases c4
      have h39 : ¬ (u 8 (3 * m.toNat + i.toNat)).toNat < 1040 := fun e => hn _ _ c3 e c4
      exact ⟨lt, ⟨by omega, c2⟩, (low _ lt h40).trans c4⟩
    have kpG : kp b N g G := fun m q1 q2 => low m q1 (by have := q2.1; omega)
    refine ⟨by rw [r, tset_f (by decide), wF_n (by decide), tset_s], b, N + 76, u, G, rfl, a1, by omega, a3.ext (N := 1000) (fun m q => low m (by omega) (by omega)) (by omega), fun m q => ?_, by rw [ew 0 (by decide) (by decide) (by decide)]; exact a5, a6, fun m i m0 m1 i0 i1 => ?_, a8, a9, a10, .ref N, T, fl, cl, ?_, Or.inr ⟨by rw [r, tset_s], N, u', rfl, by omega, by omega, Or.inr a2, fun i hi => ?_, by rw [p0, e31]; exact a5, by rw [e31, ← a5]; exact a6, fun m i m0 m1 i0 i1 => ?_, fun m i m0 m1 i0 i1 => ?_⟩, e5.mv a4 kpG (Or.inl rfl) (ew 4 (by decide) (by decide) (by decide)) (ew 5 (by decide) (by decide) (by decide)), e6.mv a4 kpG (Or.inl rfl) (ew 6 (by decide) (by decide) (by decide)) (ew 7 (by decide) (by decide) (by decide)), e7.mv a4 kpG (Or.inl rfl) (ew 8 (by decide) (by decide) (by decide)) (ew 9 (by decide) (by decide) (by decide))⟩
    · rw [← hG]; exact (zup_ne (by omega)).trans ((sH_out (by omega)).trans (hgt m q))
    · obtain ⟨c1, c2, c3, -⟩ := a7 m i m0 m1 i0 i1
      exact ⟨c1, c2, c3, (bk m i m0 m1 i0 i1).2.2⟩
    · rw [← hG, zup_at, ew 10 (by decide) (by decide) (by decide)]
    · rw [← hG]; exact (zup_ne (by omega)).trans (sH_in i hi)
    · rw [p0] at i1 ⊢
      rw [p8]
      obtain ⟨d1, d2, d3⟩ := bk m i m0 m1 i0 i1
      refine ⟨?_, Or.inl d1, by have := d2.1; omega, d3⟩
      rw [p7 m.toNat (by omega), if_neg (by rw [show 151 + m.toNat = (151 + m).toNat by omega]; omega)]
      decide
    · rw [p0] at i1
      rw [p8]
      exact (bk m i m0 m1 i0 i1).2.1
  refine zMet.of (by decide) (Nat.le_of_ble_eq_true rfl) fun X K => ?_
  have fr := hC.fr
  refine z_aload_n K dX1_save_0 rfl rfl rfl ?_
  refine z_new K (N) nw_X1_13 fr (by omega) (by omega) (by omega) dX1_save_1 ?_
  refine z_dup K dX1_save_4 rfl ?_
  refine z_aload_n K dX1_save_5 rfl rfl rfl ?_
  refine z_get K fd_X1_16_1 (hxn _) rfl dX1_save_6 ?_
  refine z_cI (fs := []) K (kcp) cI_X1_310 rfl rfl (by omega) (by omega) (by omega) (Nat.le_of_ble_eq_true rfl) dX1_save_9 (fun q h1 hq => by obtain ⟨_, _, z, -⟩ := hq; cases z) ?_
  rintro v h1 ⟨u', g', z, rfl, p0, p52, p53, p8, p7, p3, hge, hgt⟩
  cases z
  refine z_putE K fd_X1_342_1 ⟨_, rfl, Or.inl rfl⟩ (hy _ _ hge) (by omega) (Nat.le_of_ble_eq_true rfl) (zf_r) dX1_save_12 (hset _ _) ?_
  exact z_vret K (by omega) (by omega) (fin u' g' p0 p8 p7 hge hgt) dX1_save_15
def resQ (w : tW) (w' : tW) : Prop := (w 2 0 = 0 ∧ w' = tset w 3 0 1) ∨ (w 2 0 = 1 ∧ w' = wF (tset w 3 0 0) 0 (w 1))
theorem x1_restore (hC : CG b N u g w) : zMet yX1_restore (ws_ yX1_restore cX1_restore 1 none) 10 [.ref 1040] (sH b u g) (cQv (sH b u g) (resQ w) (cdA 23 99 99)) 122 1720 := by
  have n8 := hC.n8
  obtain ⟨a1, a2, a3, a4, a5, a6, a7, a8, a9, a10, sv, T, fl, cl, e1, e2, e5, e6, e7⟩ := id hC
  have hx : sH b u g 1040 = some (oX b sv T fl cl (w 10 0)) := (sH_out (by omega)).trans e1
  have kc := fun v hv => x1_checkState (h := sH b u g) (N := N) (v := v) hC.am hv hC.fr n8.2.2.2
  have e22 := e2
  refine zMet.of (by decide) (Nat.le_of_ble_eq_true rfl) fun X K => ?_
  rcases e2 with ⟨z2, rfl⟩ | ⟨z2, b2, u2, rfl, s1, s2, s3, s4, s5, s6, s7, s8⟩
  · have kc0 := kc 0 (by omega)
    have hex : cQv (sH b u g) (resQ w) (cdA 23 99 99) (.inr N) (zup (sH b u g) N (oEx 23 (sH b u g) N)) := cQv.ex hC hC.lo (by decide) (fun w' r => by
      rcases r with ⟨-, rfl⟩ | ⟨z, -⟩
      · exact ⟨set3_3, sw.set, set3_0⟩
      · omega)
    refine z_aload_n K dX1_restore_0 rfl rfl rfl ?_
    refine z_get K fd_X1_342_1 (hx) rfl dX1_restore_1 ?_
    refine z_ifnullN (tgt := 11) K dX1_restore_4 rfl ?_
    refine j_iconst K dX1_restore_11 ?_
    refine z_callS K (kc0) cS_X1_83 rfl rfl (by omega) (by omega) (by omega) (Nat.le_of_ble_eq_true rfl) dX1_restore_12 (ckX fun ck_12 => z_out K rfl (by omega) (by omega) hex) (ckK fun ck_12 => ?_)
    exact absurd rfl ck_12
  · have kc1 := kc 1 (by omega)
    have hid : sH b2 u2 (sH b u g) = sH b u g := by
      funext m
      by_cases q : m < b2 ∨ b2 + 72 ≤ m
      · exact sH_out q
      · obtain ⟨i, rfl⟩ : ∃ i, m = b2 + i := ⟨m - b2, by omega⟩
        rw [sH_in i (by omega), sH_out (by omega), s4 i (by omega)]
    have hB2 : BkOk b2 u2 (sH b u g) := fun m i m0 m1 i0 i1 => by
      obtain ⟨c1, c2, c3, c4⟩ := s7 m i m0 m1 i0 i1
      exact ⟨c1, c2, c3, (sH_out (s8 m i m0 m1 i0 i1).2).trans c4⟩
    have hS2 : SIr (u2 0) := by rw [s5]; exact s6
    have kcp := x2_copy (b2 := b2) (u2 := u2) (b := N) (g := sH b u g) (by omega) s2 hC.am (fun m hm => (sH_out (by omega)).trans (a4 m hm)) hS2.1 hS2.2.1 hS2.2.2.2 hB2
    rw [hid] at kcp
    have hxn : ∀ c, zup (sH b u g) N c 1040 = some (oX b (.ref b2) T fl cl (w 10 0)) := fun c => (zup_ne (by omega)).trans hx
    have hy : ∀ u' g', zExt N (sH b u g) g' → sH N u' (sH b2 u2 g') 1040 = some (oX b (.ref b2) T fl cl (w 10 0)) := fun u' g' h => (sH_out (by omega)).trans ((sH_out (by omega)).trans ((h 1040 (by omega)).trans hx))
    have hset : ∀ u' g', zup (sH N u' (sH b2 u2 g')) 1040 (oX N (.ref b2) T fl cl (w 10 0)) = sH N u' (zup (sH b2 u2 g') 1040 (oX N (.ref b2) T fl cl (w 10 0))) := fun u' g' => sH_upo (by omega)
    have fin : ∀ (u' : tW) (g' : zH), u' 0 = u2 0 → u' 5 2 = -1 → u' 5 3 = 0 → u' 8 = u2 8 → (∀ m, m < 4 → u' 7 m = if u2 0 (151 + m) = 0 then 0 else 1) → u' 3 = (fun _ => 0) → zExt N (sH b u g) g' → zTop g' (N + 76) → cQv (sH b u g) (resQ w) (cdA 23 99 99) (.inl none) (sH N u' (zup (sH b2 u2 g') 1040 (oX N (.ref b2) T fl cl (w 10 0)))) := by
      intro u' g' p0 p52 p53 p8 p7 p3 hge hgt
      generalize hG : zup (sH b2 u2 g') 1040 (oX N (.ref b2) T fl cl (w 10 0)) = G
      have low : ∀ m, m < N → m ≠ 1040 → G m = sH b u g m := fun m q1 q2 => by
        rw [← hG, zup_ne q2]
        by_cases q : m < b2 ∨ b2 + 72 ≤ m
        · rw [sH_out q]; exact hge m q1
        · obtain ⟨i, rfl⟩ : ∃ i, m = b2 + i := ⟨m - b2, by omega⟩
          rw [sH_in i (by omega), sH_out (by omega), s4 i (by omega)]
      refine ⟨fun m hm => (sH_out (by omega)).trans (low m (by omega) (by omega)), Or.inl ⟨rfl, fun w' r => ?_⟩⟩
      rcases r with ⟨z, -⟩ | ⟨-, r⟩
      · omega
      have ew : ∀ q, q ≠ 0 → q ≠ 3 → w' q = w q := fun q q1 q2 => by rw [r, wF_n q1, tsG q2]
      have kpG : kp b N g G := fun m q1 q2 => (low m q1 (by have := q2.1; omega)).trans (sH_out q2.2)
      refine ⟨by rw [r, wF_n (by decide), tset_s], N, N + 76, u', G, rfl, by omega, by omega, a3.ext (N := 1000) (fun m q => (low m (by omega) (by omega)).trans (sH_out (by omega))) (by omega), fun m q => ?_, by rw [r, wF_s, p0]; exact s5, by rw [p0]; exact hS2, fun m i m0 m1 i0 i1 => ?_, p52, by rw [p53]; omega, fun k => by rw [p3]; show (0 : Int) ≤ 0 ∧ (0 : Int) ≤ 100000; decide, .ref b2, T, fl, cl, ?_, e22.mv a4 kpG (Or.inr (Nat.le_refl _)) (by omega) (ew 2 (by decide) (by decide)) (ew 1 (by decide) (by decide)), e5.mv a4 kpG (Or.inr (Nat.le_refl _)) (ew 4 (by decide) (by decide)) (ew 5 (by decide) (by decide)), e6.mv a4 kpG (Or.inr (Nat.le_refl _)) (ew 6 (by decide) (by decide)) (ew 7 (by decide) (by decide)), e7.mv a4 kpG (Or.inr (Nat.le_refl _)) (ew 8 (by decide) (by decide)) (ew 9 (by decide) (by decide))⟩
      · rw [← hG]; exact (zup_ne (by omega)).trans ((sH_out (by omega)).trans (hgt m q))
      · rw [p0] at i1 ⊢
        rw [p8]
        obtain ⟨c1, c2, c3, c4⟩ := s7 m i m0 m1 i0 i1
        have d := s8 m i m0 m1 i0 i1
        have lt := a4.lt c4
        refine ⟨?_, Or.inl lt, c3, (kpG _ lt d).trans c4⟩
        rw [p7 m.toNat (by omega), if_neg (by rw [show 151 + m.toNat = (151 + m).toNat by omega]; omega)]
        decide
      · rw [← hG, zup_at, ew 10 (by decide) (by decide)]
    have fr := hC.fr
    have mid : ∀ env, zsub env [(0, .ref 1040)] → zW X (cQv (sH b u g) (resQ w) (cdA 23 99 99)) (sH b u g) 1 6 15 env [] := by
      intro env he
      refine zW.cut he ?_
      refine z_aload_n K dX1_restore_15 rfl rfl rfl ?_
      refine z_new K (N) nw_X1_13 fr (by omega) (by omega) (by omega) dX1_restore_16 ?_
      refine z_dup K dX1_restore_19 rfl ?_
      refine z_aload_n K dX1_restore_20 rfl rfl rfl ?_
      refine z_get K fd_X1_342_1 (hxn _) rfl dX1_restore_21 ?_
      refine z_cI (fs := []) K (kcp) cI_X1_310 rfl rfl (by omega) (by omega) (by omega) (Nat.le_of_ble_eq_true rfl) dX1_restore_24 (fun q h1 hq => by obtain ⟨_, _, z, -⟩ := hq; cases z) ?_
      rintro v h1 ⟨u', g', z, rfl, p0, p52, p53, p8, p7, p3, hge, hgt⟩
      cases z
      refine z_putE K fd_X1_16_1 ⟨_, rfl, Or.inl rfl⟩ (hy _ _ hge) (by omega) (Nat.le_of_ble_eq_true rfl) (zf_r) dX1_restore_27 (hset _ _) ?_
      exact z_vret K (by omega) (by omega) (fin u' g' p0 p52 p53 p8 p7 p3 hge hgt) dX1_restore_30
    refine z_aload_n K dX1_restore_0 rfl rfl rfl ?_
    refine z_get K fd_X1_342_1 (hx) rfl dX1_restore_1 ?_
    refine z_ifnull K dX1_restore_4 ?_
    refine j_iconst K dX1_restore_7 ?_
    refine z_goto (tgt := 12) K dX1_restore_8 rfl ?_
    refine z_callS K (kc1) cS_X1_83 rfl rfl (by omega) (by omega) (by omega) (Nat.le_of_ble_eq_true rfl) dX1_restore_12 (ckX fun ck_12 => absurd (by decide) ck_12) (ckK fun ck_12 => ?_)
    exact zW.widen (by omega) (by omega) (mid _ ⟨rfl, trivial⟩)
end XP7

