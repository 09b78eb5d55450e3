/-! ===== the component's operations: shifting bottlenecks, tabu search ===== -/
section XP1
variable {b N N' : Nat} {u u' w w' : tW} {g g' : zH}
theorem wRow_sw {s : Nat → Int} : sw w (wRow w s) := fun f a _ _ => wRow_f (by omega)
theorem x1_shiftBottlenecks (hC : CG b N u g w) (hI : TI w) (ha : ACy (w 0) (w 13)) : zMet yX1_shiftBottlenecks (ws_ yX1_shiftBottlenecks cX1_shiftBottlenecks 1 (some .int)) 10 [.ref 1040] (sH b u g) (cQ (sH b u g) (shQ w) (cdA 99 99 99)) 120 500 := by
  have n8 := hC.n8
  have er := hC.row
  obtain ⟨sv, T, fl, cl, a1, -⟩ := hC.2.2.2.2.2.2.2.2.2.2
  have hx : ∀ u' g', zExt N g g' → sH b u' g' 1040 = some (oX b sv T fl cl (w 10 0)) := fun u' g' h => (sH_out (by omega)).trans ((h 1040 (by omega)).trans a1)
  have ks := x2_shift (b := b) (u := u) (g := g) (N := N) n8.1 n8.2.2.1 hC.2.2.2.1 hC.A hC.O hC.bk hC.2.2.2.2.2.2.2.1 hC.2.2.2.2.2.2.2.2.1 hC.C
  refine zMet.of (by decide) (Nat.le_of_ble_eq_true rfl) fun X K => ?_
  have main : ∀ (u1 : tW) (g1 : zH) (s o c : Nat → Int), shR (u 0) 4 s o c → shI s o → (∀ m : Nat, m < 4 → o m = 0) → (∀ k : Nat, k < 4 → 0 ≤ c k ∧ c k ≤ 3) → siP b u g N s c u1 g1 → ∀ env, zsub env [(0, .ref 1040)] → zW X (cQ (sH b u g) (shQ w) (cdA 99 99 99)) (sH b u1 g1) 120 500 8 env [.ref N, .ref 1040] := by
    intro u1 g1 s o c h1 h2 h3 h4 h5 env he
    refine zW.cut he ?_
    obtain ⟨q1, q2, q3, q4, q5, M, q6, q7⟩ := h5
    have hCo : ACy s (oB 0) := by
      obtain ⟨r, hr⟩ := h2.2.2.1
      refine ⟨r, fun k k0 k1 => ?_⟩
      obtain ⟨b1, b2, b3⟩ := hr k k0 k1
      refine ⟨b1, b2, ?_⟩
      have hm := (h2.1.2.1.2 k k0 k1).2.1
      have e : sAh s o k = sAh s (oB 0) k := by
        unfold sAh
        rw [h3 _ (by omega), show oB 0 (sMc s k).toNat = 0 by unfold oB; simp]
      rw [← e]
      exact b3
    have hC1 : CG b M u1 g1 (wRow w (u1 0)) := hC.ord q3 (fun i hi => by rw [q1]; exact q2 i hi) (by rw [q1]; exact h2.1) (by rw [q1]; exact h2.2.1) (by rw [q1]; exact hCo) q4 q7 (by omega) wRow_sw wRow_0.symm
    have hx1 : g1 1040 = some (oX b sv T fl cl (wRow w (u1 0) 10 0)) := by rw [wRow_f (by decide)]; exact (q4 1040 (by omega)).trans a1
    have hC2 := hC1.cl hx1 (c := N) ⟨by omega, Or.inr (by omega)⟩ q5
    have k1 := x1_cmp hC2
    rw [wRow_f (f := 10) (by decide)] at k1 hC2
    have fin : ∀ (u2 : tW) (rd st : Nat → Int), SK u1 u2 → Sch (u1 0) u2 rd st → cQ (sH b u g) (shQ w) (cdA 99 99 99) (.inl (some (.int (iI (gEnd (u1 0) st (u1 0 1).toNat))))) (sH b u2 (zup g1 1040 (oX b sv T fl (.ref N) (w 10 0)))) := by
      intro u2 rd st sk sc
      refine ⟨fun q hq => (sH_out (by omega)).trans ((zup_ne (by omega)).trans ((q4 q (by omega)).trans (hC.lo q hq).symm)), Or.inl ⟨_, rfl, fun v' w' r => ?_⟩⟩
      obtain ⟨s', o', c', rd', st', r1, r2, r3, r4, r5, r6, r7, r8, r9, r10, r11, r12, r13⟩ := r
      rw [← er] at r1
      obtain ⟨e1, e2, e3, -⟩ := shR.uniq hC.A hC.O hC.C 4 s o c s' o' c' (by omega) h1 r1
      have mk : MkR s (oB 0) v' := by
        rw [← e1] at r4 r5 r6
        have eo : ∀ m : Nat, m < 4 → o' m = oB 0 m := fun m hm => by rw [r3 m hm]; unfold oB; simp
        exact ⟨rd', st', r4.cg h2.1 eo, r5.cg h2.1 eo, r6⟩
      have mk2 := sc.mkr
      rw [q1] at mk2
      refine ⟨r11, by rw [q1]; exact mk.uniq h2.1 h2.2.1 mk2, b, M, u2, _, rfl, ?_⟩
      refine (hC2.sk sk).re ⟨fun f hf => ?_, fun k hk => ?_, ?_, ?_⟩ ?_
      · rw [r13 f (by rcases hf with rfl | rfl | rfl | rfl | rfl | rfl <;> decide)]
        rcases hf with rfl | rfl | rfl | rfl | rfl | rfl <;> rfl
      · rw [r9]; exact (e3 k hk).1.symm
      · exact r10
      · rw [r13 10 (by decide)]; rfl
      · rw [r7, ← e1, ← q1]; rfl
    refine z_putE K fd_X1_273_1 ⟨_, rfl, Or.inl rfl⟩ (hx _ _ q4) (by omega) (Nat.le_of_ble_eq_true rfl) (zf_a) dX1_shiftBottlenecks_8 (sH_upo (by omega)) ?_
    refine z_aload_n K dX1_shiftBottlenecks_11 rfl rfl rfl ?_
    refine z_callV K (k1) cV_X1_158_X1 ((sH_out (by omega)).trans (zup_at _ _ _)) rfl rfl rfl (by omega) (by omega) (by omega) (Nat.le_of_ble_eq_true rfl) dX1_shiftBottlenecks_12 cmX (cmK fun u' rd st sk sc => ?_)
    exact z_iret K (by omega) (by omega) (fin u' rd st sk sc) dX1_shiftBottlenecks_15
  refine z_aload_n K dX1_shiftBottlenecks_0 rfl rfl rfl ?_
  refine z_aload_n K dX1_shiftBottlenecks_1 rfl rfl rfl ?_
  refine z_get K fd_X1_16_1 (hx _ _ zExt.rf) rfl dX1_shiftBottlenecks_2 ?_
  refine z_callV K (ks) cV_X1_269_X2 (sH_shop) rfl rfl rfl (by omega) (by omega) (by omega) (Nat.le_of_ble_eq_true rfl) dX1_shiftBottlenecks_5 (fun q h1 hq => by obtain ⟨_, _, _, _, _, z, -⟩ := hq; cases z) ?_
  rintro v h1 ⟨u1, g1, s, o, c, z, rfl, h1, h2, h3, h4, h5⟩
  cases z
  exact main u1 g1 s o c h1 h2 h3 h4 h5 _ ⟨rfl, trivial⟩
theorem x1_tabu {a t : Int} (hC : CG b N u g w) (hI : TI w) (ha : i32 a) (ht : i32 t) : zMet yX1_tabu (ws_ yX1_tabu cX1_tabu 4 (some .int)) 12 [.ref 1040, .int (iI a), .int (iI t)] (sH b u g) (cQ (sH b u g) (pubQ w (tcTabu a t) (tabQ w a t)) (cdA 22 99 99)) 1600 30000 := by
  have n8 := hC.n8
  have er := hC.row
  obtain ⟨sv, T, fl, cl, a1, -⟩ := hC.2.2.2.2.2.2.2.2.2.2
  have hx : ∀ u' g', (∀ m, m < N → g' m = g m) → sH b u' g' 1040 = some (oX b sv T fl cl (w 10 0)) := fun u' g' h => (sH_out (by omega)).trans ((h 1040 (by omega)).trans a1)
  have k1 := x1_inG (h := sH b u g) (x := a) (a := 0) (b := 20) ha (by omega) (by omega)
  have k2 := x1_inG (h := sH b u g) (x := t) (a := 0) (b := 9) ht (by omega) (by omega)
  have kc := fun v hv => x1_check (h := sH b u g) (N := N) (v := v) hC.am hv hC.fr n8.2.2.2
  generalize hR : pubQ w (tcTabu a t) (tabQ w a t) = R
  have hex : ¬ ((0 ≤ a ∧ a ≤ 20) ∧ 0 ≤ t ∧ t ≤ 9) → cQ (sH b u g) R (cdA 22 99 99) (.inr N) (zup (sH b u g) N (oEx 22 (sH b u g) N)) := fun ck => cQ.ex hC hC.lo (by decide) (fun v' w' r => by rw [← hR] at r; exact pubQ.ex r (if_neg ck) (by decide))
  refine zMet.of (by decide) (Nat.le_of_ble_eq_true rfl) fun X K => ?_
  have bad : ¬ ((0 ≤ a ∧ a ≤ 20) ∧ 0 ≤ t ∧ t ≤ 9) → ∀ env, zsub env [] → zW X (cQ (sH b u g) R (cdA 22 99 99)) (sH b u g) 0 0 24 env [] := by
    intro h1 env he
    refine zW.cut he ?_
    have kc0 := kc 0 (by omega)
    refine j_iconst K dX1_tabu_24 ?_
    refine z_callS K (kc0) cS_X1_80 rfl rfl (by omega) (by omega) (by omega) (Nat.le_of_ble_eq_true rfl) dX1_tabu_25 (ckX fun ck_25 => z_out K rfl (by omega) (by omega) (hex h1)) (ckK fun ck_25 => ?_)
    exact absurd rfl ck_25
  have last : ((0 ≤ a ∧ a ≤ 20) ∧ 0 ≤ t ∧ t ≤ 9) → ∀ (le0 : Int) (u1 u2 : tW) (g2 : zH) (x' : Nat → Int) (B' N' : Nat), MkR (u 0) (oB 0) le0 → u1 0 = u 0 → SO u u2 → zExt N g g2 → (∃ fuel, tbR t a fuel (u 0) (fun _ _ => 0) le0 (u 0) 0 (u2 0) (x' 2)) → okR (u 0) (u2 0) → g2 N = some (.inr (10, seF b (N + 1) B' x')) → N < N' → zTop g2 N' → ∀ env, zsub env [(0, .ref 1040), (3, .ref N)] → zW X (cQ (sH b u g) R (cdA 22 99 99)) (sH b u2 g2) 1600 30000 51 env [] := by
    intro ck le0 u1 u2 g2 x' B' N' hle e1 so he2 htb hok hgS hNN ht2 env he
    refine zW.cut he ?_
    obtain ⟨o1, o2, o3, o4⟩ := id hok
    have hC1 : CG b N' u2 g2 (wRow w (u2 0)) := hC.ord so (fun i hi => o4 i (by omega)) o1 o2 o3 he2 ht2 (by omega) wRow_sw wRow_0.symm
    have hx1 : g2 1040 = some (oX b sv T fl cl (wRow w (u2 0) 10 0)) := by rw [wRow_f (by decide)]; exact (he2 1040 (by omega)).trans a1
    have hC2 := hC1.st hx1 (k := x' 2)
    have k5 := x1_cmp hC2
    have fin : ∀ (u3 : tW) (rd st : Nat → Int), SK u2 u3 → Sch (u2 0) u3 rd st → cQ (sH b u g) R (cdA 22 99 99) (.inl (some (.int (iI (gEnd (u2 0) st (u2 0 1).toNat))))) (sH b u3 (zup g2 1040 (oX b sv T fl cl (x' 2)))) := by
      intro u3 rd st sk sc
      refine ⟨fun q hq => (sH_out (by omega)).trans ((zup_ne (by omega)).trans ((he2 q (by omega)).trans (hC.lo q hq).symm)), Or.inl ⟨_, rfl, fun v' w' r => ?_⟩⟩
      rw [← hR] at r
      obtain ⟨fuel, bs, k, le1, r1, r2, r3, r4, r5, r6, r7, r8, r9⟩ := r.1 (if_pos ck)
      rw [← er] at r1 r2 r3
      obtain rfl := r1.uniq hC.A hC.O hle
      obtain ⟨f2, htb⟩ := htb
      obtain ⟨e2, e3⟩ := tbR.uniq _ _ _ _ _ _ _ _ _ _ _ hC.A hC.O hC.C r2 htb
      rw [e2] at r9 r4
      refine ⟨r7, r9.uniq o1 o2 sc.mkr, b, N', u3, _, rfl, ?_⟩
      refine (hC2.sk sk).re ⟨fun f hf => ?_, fun q hq => ?_, ?_, ?_⟩ ?_
      · rw [r8 f (by rcases hf with rfl | rfl | rfl | rfl | rfl | rfl <;> decide), tsG (by rcases hf with rfl | rfl | rfl | rfl | rfl | rfl <;> decide), wRow_f (by rcases hf with rfl | rfl | rfl | rfl | rfl | rfl <;> decide)]
      · rw [r8 8 (by decide), tsG (by decide), wRow_f (by decide)]
      · rw [r8 9 (by decide), tsG (by decide), wRow_f (by decide)]
      · rw [r5, e3, tset_s]
      · rw [r4, tsG (by decide), wRow_0]
    have lk : sH b u2 g2 N = some (.inr (10, seF b (N + 1) B' x')) := (sH_out (by omega)).trans hgS
    refine z_aload_n K dX1_tabu_51 rfl rfl rfl ?_
    refine z_aload_n K dX1_tabu_52 rfl rfl rfl ?_
    refine z_get K fd_X1_283_10 (lk) rfl dX1_tabu_53 ?_
    refine z_putE K fd_X1_286_1 ⟨_, rfl, Or.inl rfl⟩ (hx _ _ he2) (by omega) (Nat.le_of_ble_eq_true rfl) (zf_i) dX1_tabu_56 (sH_upo (by omega)) ?_
    refine z_aload_n K dX1_tabu_59 rfl rfl rfl ?_
    refine z_callV K (k5) cV_X1_158_X1 ((sH_out (by omega)).trans (zup_at _ _ _)) rfl rfl rfl (by omega) (by omega) (by omega) (Nat.le_of_ble_eq_true rfl) dX1_tabu_60 cmX (cmK fun u' rd st sk sc => ?_)
    exact z_iret K (by omega) (by omega) (fin u' rd st sk sc) dX1_tabu_63
  have mid : ((0 ≤ a ∧ a ≤ 20) ∧ 0 ≤ t ∧ t ≤ 9) → ∀ (u1 : tW) (rd st : Nat → Int), SK u u1 → Sch (u 0) u1 rd st → ∀ env, zsub env [(0, .ref 1040), (1, .int (iI a)), (2, .int (iI t))] → zW X (cQ (sH b u g) R (cdA 22 99 99)) (sH b u1 g) 1 6 33 env [] := by
    intro ck u1 rd st sk sc env he
    refine zW.cut he ?_
    have e0 := sk.e0
    have hC1 := hC.sk sk
    have hg := gEnd_r (s := u 0) (st := st) (n := (u 0 1).toNat) hC.A (by have := hC.A.2.1.1; omega) (fun i hi => by have := sc.2.2.2.2.1 i hi; omega)
    have ki := x11_init (b := b) (S := N) (u := u1) (g := g) (ten := t) n8.1 n8.2.2.1 hC.2.2.1 hC.2.2.2.1 ck.2 (by rw [sc.2.2.2.2.2]; omega)
    have fr : sH b u1 g N = none := hC1.fr
    have run : ∀ (g1 : zH) (x : Nat → Int), (∀ m, m < N → g1 m = g m) → x 0 = t → x 1 = u1 5 0 → x 2 = 0 → rX x → seH b N (N + 5) (N + 17) g1 (u1 0) (u1 0) x 0 (fun _ => 0) (fun _ => 0) (fun _ => 0) → ∀ env, zsub env [(0, .ref 1040), (1, .int (iI a)), (3, .ref N)] → zW X (cQ (sH b u g) R (cdA 22 99 99)) (sH b u1 g1) 20 200 46 env [] := by
      intro g1 x hg1 x0 x1 x2 hrx hse env he
      refine zW.cut he ?_
      have kr := x11_run (b := b) (S := N) (u := u1) (g := g1) (rd := rd) (st := st) (x := x) (most := a) n8.1 n8.2.2.1 (hC.2.2.1.ext hg1 (by omega)) hC1.A hC1.O hC1.C (hC1.bk.ext hg1 hC.2.2.2.1) hC1.2.2.2.2.2.2.2.1 hC1.2.2.2.2.2.2.2.2.1 sc.1 (by rw [e0]; exact sc.2.1) (by rw [e0]; exact sc.2.2.1) hse x2 (by omega) (by rw [x1, sc.2.2.2.2.2]; omega) hrx ck.1
      have lk : sH b u1 g1 N = some (.inr (10, seF b (N + 1) (N + 5) x)) := (sH_out (by omega)).trans hse.2.2.2.1
      refine z_aload_n K dX1_tabu_46 rfl rfl rfl ?_
      refine z_iload_n K dX1_tabu_47 rfl rfl ?_
      refine z_callV K (kr) cV_X1_281_X11 (lk) rfl rfl rfl (by omega) (by omega) (by omega) (Nat.le_of_ble_eq_true rfl) dX1_tabu_48 (fun q h1 hq => by obtain ⟨_, _, _, _, _, _, z, -⟩ := hq; cases z) ?_
      rintro v h1 ⟨u2, g2, x', B', N', n, z, rfl, so, hge, htb, hok, hgS, hrx', hNN, ht2⟩
      cases z
      rw [e0, x0, x1, sc.2.2.2.2.2] at htb
      rw [e0] at hok
      exact zW.widen (by omega) (by omega) (last ck _ u1 u2 g2 x' B' N' sc.mkr e0 ((show SO u u1 from ⟨fun f hf => sk.1 f (by omega) (by omega) (by omega) (by omega) (by omega), sk.2.1, sk.2.2.1, sk.2.2.2⟩).tr so) (fun m hm => (hge m hm).trans (hg1 m hm)) htb hok hgS hNN ht2 _ ⟨rfl, rfl, trivial⟩)
    have hxx := hx u1 g (fun _ _ => rfl)
    have hxn : ∀ c, zup (sH b u1 g) N c 1040 = some (oX b sv T fl cl (w 10 0)) := fun c => (zup_ne (by omega)).trans hxx
    refine z_new K (N) nw_X1_276 fr (by omega) (by omega) (by omega) dX1_tabu_33 ?_
    refine z_dup K dX1_tabu_36 rfl ?_
    refine z_aload_n K dX1_tabu_37 rfl rfl rfl ?_
    refine z_get K fd_X1_16_1 (by first | exact hxx | exact hxn _) rfl dX1_tabu_38 ?_
    refine z_iload_n K dX1_tabu_41 rfl rfl ?_
    refine z_cI (fs := []) K (ki) cI_X1_278 rfl rfl (by omega) (by omega) (by omega) (Nat.le_of_ble_eq_true rfl) dX1_tabu_42 (fun q h1 hq => by obtain ⟨_, _, z, -⟩ := hq; cases z) ?_
    rintro v h1 ⟨g1, x, z, rfl, hg1, x0, x1, x2, hrx, hse⟩
    cases z
    refine z_astore_n K dX1_tabu_45 rfl rfl (by decide) rfl ?_
    exact zW.widen (by omega) (by omega) (run g1 x hg1 x0 x1 x2 hrx hse _ ⟨rfl, rfl, rfl, trivial⟩)
  have kc1 := kc 1 (by omega)
  have k4 := x1_cmp hC
  have hx0 := hx u g (fun _ _ => rfl)
  refine z_iload_n K dX1_tabu_0 rfl rfl ?_
  refine j_iconst K dX1_tabu_1 ?_
  refine j_bipush K dX1_tabu_2 (by decide +kernel) ?_
  refine z_callS K (k1) cS_X1_3 rfl rfl (by omega) (by omega) (by omega) (Nat.le_of_ble_eq_true rfl) dX1_tabu_4 zrX (zrK ?_)
  refine j_if_eq (tgt := 24) K dX1_tabu_7 rfl (b01r _) (fun c_7 => ?_) (fun c_7 => ?_)
  · exact bad (fun q => by first | exact bI_y c_17 q.2 | exact bI_y c_7 q.1) _ trivial
  · refine z_iload_n K dX1_tabu_10 rfl rfl ?_
    refine j_iconst K dX1_tabu_11 ?_
    refine j_bipush K dX1_tabu_12 (by decide +kernel) ?_
    refine z_callS K (k2) cS_X1_3 rfl rfl (by omega) (by omega) (by omega) (Nat.le_of_ble_eq_true rfl) dX1_tabu_14 zrX (zrK ?_)
    refine j_if_eq (tgt := 24) K dX1_tabu_17 rfl (b01r _) (fun c_17 => ?_) (fun c_17 => ?_)
    · exact bad (fun q => by first | exact bI_y c_17 q.2 | exact bI_y c_7 q.1) _ trivial
    · refine j_iconst K dX1_tabu_20 ?_
      refine z_goto (tgt := 25) K dX1_tabu_21 rfl ?_
      refine z_callS K (kc1) cS_X1_80 rfl rfl (by omega) (by omega) (by omega) (Nat.le_of_ble_eq_true rfl) dX1_tabu_25 (ckX fun ck_25 => absurd (by decide) ck_25) (ckK fun ck_25 => ?_)
      refine z_aload_n K dX1_tabu_28 rfl rfl rfl ?_
      refine z_callV K (k4) cV_X1_158_X1 (hx0) rfl rfl rfl (by omega) (by omega) (by omega) (Nat.le_of_ble_eq_true rfl) dX1_tabu_29 cmX (cmK fun u' rd st sk sc => ?_)
      refine z_pop K dX1_tabu_32 rfl ?_
      exact mid ⟨bI_n c_7, bI_n c_17⟩ u' rd st sk sc _ ⟨rfl, rfl, rfl, trivial⟩
end XP1

