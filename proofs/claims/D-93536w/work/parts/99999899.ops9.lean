/-! ===== the component's operations: reoptimization, shifting bottlenecks, tabu search ===== -/
/-- the fields of the reference that the component's cells show -/
def swv (w w' : tW) : Prop := (∀ f, f = 1 ∨ f = 2 ∨ f = 4 ∨ f = 5 ∨ f = 6 ∨ f = 7 → w' f = w f) ∧ (∀ k, k < 4 → w' 8 k = w 8 k) ∧ w' 9 0 = w 9 0 ∧ w' 10 0 = w 10 0
section XO9
variable {b N N' : Nat} {u u' w w' : tW} {g g' : zH}
theorem CR.re (h : CR b N g w) (hs : swv w w') : CR b N g w' := by
  obtain ⟨sv, T, fl, cl, a1, a2, a3, a4, a5⟩ := h
  obtain ⟨s1, s2, s3, s4⟩ := hs
  refine ⟨sv, T, fl, cl, by rw [s4]; exact a1, ?_, ?_, ?_, ?_⟩
  · unfold SvG; rw [s1 1 (by omega), s1 2 (by omega)]; exact a2
  · unfold TxG; rw [s1 4 (by omega), s1 5 (by omega)]; exact a3
  · unfold FlG; rw [s1 6 (by omega), s1 7 (by omega)]; exact a4
  · unfold ClG; rw [s3]
    exact a5.imp id fun ⟨e, c, c1, c2, c3⟩ => ⟨e, c, c1, c2, by rw [c3]; exact congrArg some (aI_congr fun k hk => (s2 k hk).symm)⟩
theorem CG.re (h : CG b N u g w) (hs : swv w w') (h0 : w' 0 = w 0) : CG b N u g w' := by
  obtain ⟨a1, a2, a3, a4, a5, a6, a7, a8, a9, a10, a11⟩ := h
  exact ⟨a1, a2, a3, a4, by rw [h0]; exact a5, a6, a7, a8, a9, a10, a11.re hs⟩
theorem Mono.lo {s s' : Nat → Int} (h : Mono s) (hA : WfA s) (e : ∀ i, i < 179 → s' i = s i) : Mono s' := by
  intro j a c j0 j1 a0 ac c1
  rw [e 0 (by omega)] at j1
  have h5 := hA.1.1
  have el : sLen s' j = sLen s j := e _ (by omega)
  rw [el] at c1
  have hl := (hA.1.2 j j0 j1).2.2.2
  have e1 : sSeq s' j a = sSeq s j a := e _ (by omega)
  have e2 : sSeq s' j c = sSeq s j c := e _ (by omega)
  rw [e1, e2]
  exact h j a c j0 j1 a0 ac c1
/-- orders change, cells are made -/
theorem CG.ord (h : CG b N u g w) (k : SO u u') (lo : ∀ i, i < 179 → u' 0 i = u 0 i) (hA' : WfA (u' 0)) (hO' : WfO (u' 0)) (hc : ACy (u' 0) (oB 0)) (he : zExt N g g') (hT : zTop g' N') (hN : N ≤ N') (hs : sw w w') (h0 : u' 0 = w' 0) : CG b N' u' g' w' :=
  h.mv he hT hN hs h0 ⟨hA', hO', hc, h.2.2.2.2.2.1.2.2.2.lo h.A lo⟩ ((k.bk h.A.2.2.2.2.2 lo h.bk).ext he h.2.2.2.1) k.2.1 k.2.2.1 k.2.2.2
theorem kp_40 {c : zC} : kp b N g (zup g 1040 c) := fun m _ h => zup_ne (by have := h.1; omega)
theorem Am.up40 {c : zC} (h : Am g) : Am (zup g 1040 c) := h.up (by omega)
theorem BkOk.up40 {c : zC} {c0 : List Value} (h : BkOk b u g) (hx : g 1040 = some (.inr (1, c0))) : BkOk b u (zup g 1040 c) := by
  intro m i m0 m1 i0 i1
  obtain ⟨a1, a2, a3, a4⟩ := h m i m0 m1 i0 i1
  exact ⟨a1, a2, a3, by rw [zup_ne (fun e => by rw [e, hx] at a4; cases a4)]; exact a4⟩
theorem CG.st {sv fl cl : Value} {T : Nat} {k : Int} (h : CG b N u g w) (hx : g 1040 = some (oX b sv T fl cl (w 10 0))) : CG b N u (zup g 1040 (oX b sv T fl cl k)) (tset w 10 0 k) := by
  obtain ⟨a1, a2, a3, a4, a5, a6, a7, a8, a9, a10, sv', T', fl', cl', c1, c2, c3, c4, c5⟩ := h
  rw [hx] at c1
  cases c1
  have e : ∀ f, f ≠ 10 → tset w 10 0 k f = w f := fun f hf => tsG hf
  exact ⟨a1, a2, a3.up40, fun m hm => (zup_ne (by omega)).trans (a4 m hm), by rw [e 0 (by decide)]; exact a5, a6, a7.up40 hx, a8, a9, a10, sv, T, fl, cl, by rw [zup_at, tset_s], c2.mv a4 kp_40 (Or.inl rfl) (Nat.le_refl _) (e 2 (by decide)) (e 1 (by decide)), c3.mv a4 kp_40 (Or.inl rfl) (e 4 (by decide)) (e 5 (by decide)), c4.mv a4 kp_40 (Or.inl rfl) (e 6 (by decide)) (e 7 (by decide)), c5.mv a4 kp_40 (Or.inl rfl) (e 8 (by decide)) (e 9 (by decide))⟩
theorem CG.cl {sv fl cl : Value} {T c : Nat} {f : Nat → Int} (h : CG b N u g w) (hx : g 1040 = some (oX b sv T fl cl (w 10 0))) (hc : aw b c) (hg : g c = some (aI 4 f)) : CG b N u (zup g 1040 (oX b sv T fl (.ref c) (w 10 0))) (fun q => if q = 8 then f else if q = 9 then (fun _ => 1) else w q) := by
  obtain ⟨a1, a2, a3, a4, a5, a6, a7, a8, a9, a10, sv', T', fl', cl', c1, c2, c3, c4, c5⟩ := h
  rw [hx] at c1
  cases c1
  have e : ∀ q, q ≠ 8 → q ≠ 9 → (fun q => if q = 8 then f else if q = 9 then (fun _ => 1) else w q) q = w q := fun q h1 h2 => (if_neg h1).trans (if_neg h2)
  exact ⟨a1, a2, a3.up40, fun m hm => (zup_ne (by omega)).trans (a4 m hm), a5, a6, a7.up40 hx, a8, a9, a10, sv, T, fl, .ref c, zup_at _ _ _, c2.mv a4 kp_40 (Or.inl rfl) (Nat.le_refl _) (e 2 (by decide) (by decide)) (e 1 (by decide) (by decide)), c3.mv a4 kp_40 (Or.inl rfl) (e 4 (by decide) (by decide)) (e 5 (by decide) (by decide)), c4.mv a4 kp_40 (Or.inl rfl) (e 6 (by decide) (by decide)) (e 7 (by decide) (by decide)), Or.inr ⟨rfl, c, rfl, hc, (zup_ne (by have := hc.1; omega)).trans hg⟩⟩
theorem Sch.mkr {s rd st : Nat → Int} (h : Sch s u rd st) : MkR s (oB 0) (gEnd s st (s 1).toNat) := ⟨rd, st, h.2.1, h.2.2.1, by unfold mkS; rw [if_neg (by have := h.2.2.2.1; omega)]⟩
theorem x1_copy {m : Int} (hT : zTop g N) (hN : b + 72 ≤ N) (hb : 1000 ≤ b) (hm : 0 ≤ m ∧ m ≤ 3) : zMet yX1_copy (ws_ yX1_copy cX1_copy 2 (some (.object "SetupJobShop$Order"))) 3 [.ref (b + 20 + m.toNat)] (sH b u g) (zRet (.ref N) (sH b u (tO N (u 0 (179 + m).toNat) (fun q => u 0 (183 + 5 * m.toNat + q)) g))) 2 10 := by
  have hnew := x3_newS (b := b) (u := u) (g := g) hT hN hb
  have hor0 := sH_ord (b := b) (u := u) (g := tO N 0 (fun _ => 0) g) hm
  have hrw0 := sH_orA (b := b) (u := u) (g := tO N 0 (fun _ => 0) g) hm
  have htk0 := x3_take (h := sH b u (tO N 0 (fun _ => 0) g)) (o := N) (r := N + 1) (o2 := b + 20 + m.toNat) (r2 := b + 24 + m.toNat) ((sH_out (by omega)).trans tO_0) ((sH_out (by omega)).trans tO_1) hor0 hrw0 (by omega) (by omega)
  rw [sH_upo (by omega), sH_upo (by omega), tO_put] at htk0
  have fr : sH b u g N = none := (sH_out (by omega)).trans (hT N (Nat.le_refl _))
  have lk : sH b u (tO N 0 (fun _ => 0) g) N = some (oO (N + 1) 0) := (sH_out (by omega)).trans tO_0
  refine zMet.of (by decide) (Nat.le_of_ble_eq_true rfl) fun X K => ?_
  refine z_new K (N) nw_X1_67 fr (by omega) (by omega) (by omega) dX1_copy_0 ?_
  refine z_dup K dX1_copy_3 rfl ?_
  refine z_cIN (fs := []) K (hnew) cI_X1_232 rfl rfl (by omega) (by omega) (by omega) (Nat.le_of_ble_eq_true rfl) dX1_copy_4 zvX (zvK ?_)
  refine z_astore_n K dX1_copy_7 rfl rfl (by decide) rfl ?_
  refine z_aload_n K dX1_copy_8 rfl rfl rfl ?_
  refine z_aload_n K dX1_copy_9 rfl rfl rfl ?_
  refine z_callV K (htk0) cV_X1_220_X3 (lk) rfl rfl rfl (by omega) (by omega) (by omega) (Nat.le_of_ble_eq_true rfl) dX1_copy_10 zvX (zvK ?_)
  refine z_aload_n K dX1_copy_13 rfl rfl rfl ?_
  exact z_aret K (by simp) rfl (by omega) (by omega) (⟨rfl, rfl⟩) dX1_copy_14
theorem dif_e {s bo bo' : Nat → Int} {m : Nat} : ∀ n : Nat, EQ n bo bo' → dif s m bo n = dif s m bo' n
  | 0, _ => rfl
  | n + 1, h => by
    unfold dif
    rw [dif_e n (fun j hj => h j (by omega)), h n (by omega)]
theorem dfF_dif {s bo f : Nat → Int} {m : Nat} : ∀ n : Nat, (∀ i, i < n → f i = bo i) → dfF f (fun q => s (183 + 5 * m + q)) n = dif s m bo n
  | 0, _ => rfl
  | n + 1, h => by
    unfold dfF dif
    rw [dfF_dif n (fun i hi => h i (by omega)), h n (by omega)]
    by_cases z : s (183 + 5 * m + n) = bo n
    · rw [if_neg (fun q => q z.symm), if_pos z]
    · rw [if_pos (fun q => z q.symm), if_neg z]
theorem x1_reoptimize {m : Int} (hC : CG b N u g w) (hI : TI w) (hm : i32 m) : zMet yX1_reoptimize (ws_ yX1_reoptimize cX1_reoptimize 4 (some .int)) 9 [.ref 1040, .int (iI m)] (sH b u g) (cQ (sH b u g) (pubQ w (tcMach m) (reoQ w m)) (cdA 24 99 99)) 10 60 := by
  obtain ⟨sv, T, fl, cl, hx⟩ := hC.xg
  have n8 := hC.n8
  have er := hC.row
  have k0 := x1_orderOf hC hm
  generalize hR : pubQ w (tcMach m) (reoQ w m) = R
  have hex : ¬ (0 ≤ m ∧ m ≤ 3) → cQ (sH b u g) R (cdA 24 99 99) (.inr N) (zup (sH b u g) N (oEx 24 (sH b u g) N)) := fun ck => cQ.ex hC hC.lo (by decide) (fun v' w' r => by rw [← hR] at r; exact pubQ.ex r (if_neg ck) (by decide))
  have hok : (0 ≤ m ∧ m ≤ 3) → ∀ (u' : tW) (g' : zH) (bm : Int) (bo : Nat → Int), (0 ≤ bm ∧ bm ≤ 10000) → bOf (u 0) (oB 0) m.toNat (sOn (u 0) m).toNat (fun _ => True) bm bo → isPm (u 0) m.toNat (sOn (u 0) m).toNat bo → oW (u 0) m.toNat (sOn (u 0) m).toNat bo u u' → zExt N g g' → zTop g' (N + 4) → cQ (sH b u g) R (cdA 24 99 99) (.inl (some (.int (iI (dif (u 0) m.toNat bo (sOn (u 0) m).toNat))))) (sH b u' g') := fun ck u' g' bm bo hbm hb hp ho he ht => by
    have on := (hC.O m ck.1 ck.2).1
    have em : sOn (u 0) m.toNat = (sOn (u 0) m).toNat := by rw [show ((m.toNat : Nat) : Int) = m by omega]; omega
    obtain ⟨w1, w2⟩ := sPut_W hC.A hC.O (by omega) em hp
    refine ⟨fun q hq => (sH_out (by omega)).trans ((he q (by omega)).trans (hC.lo q hq).symm), Or.inl ⟨_, rfl, fun v' w' r => ?_⟩⟩
    rw [← hR] at r
    obtain ⟨bm', bo', r1, r2, r3, r4, r5⟩ := r.1 (if_pos ck)
    rw [← er] at r1 r2 r3
    have uq := hb.uniq hC.A hC.O (by omega) em (r1.ob hC.A hC.O (by omega) em hI.ob0)
    have eq := uq.2 hbm.1
    refine ⟨r5, by rw [r2]; exact (dif_e _ eq).symm, b, N + 4, u', g', rfl, ?_⟩
    refine hC.ord ho.2 (fun i hi => by rw [ho.1]; exact sPut_lo (by omega)) (by rw [ho.1]; exact w1) (by rw [ho.1]; exact w2) ?_ he ht (by omega) (sw.fr r4 (by simp; omega)) (by rw [ho.1, r3]; exact sPut_e eq)
    rw [ho.1]
    exact (hb.own hC.A hC.O (by omega) em (isPm.own hC.O (by omega) em) (by rw [sPut_i]; exact hC.C)).2.2.ac w1 w2 hbm.1
  clear hR
  refine zMet.of (by decide) (Nat.le_of_ble_eq_true rfl) fun X K => ?_
  have main : (0 ≤ m ∧ m ≤ 3) → ∀ env, zsub env [(0, .ref 1040), (1, .int (iI m)), (2, .ref (b + 20 + m.toNat))] → zW X (cQ (sH b u g) R (cdA 24 99 99)) (sH b u g) 1 6 6 env [] := by
    intro ck env he
    refine zW.cut he ?_
    have on := (hC.O m ck.1 ck.2).1
    have o2 := (hC.O m ck.1 ck.2).2.1
    have h20 := hC.A.2.1.1
    have em : sOn (u 0) m.toNat = (sOn (u 0) m).toNat := by rw [show ((m.toNat : Nat) : Int) = m by omega]; omega
    have kc := x1_copy (u := u) (m := m) hC.2.2.2.1 n8.2.2.1 n8.1 ck
    have ko := x2_optimize (b := b) (u := u) (g := tO N (u 0 (179 + m).toNat) (fun q => u 0 (183 + 5 * m.toNat + q)) g) (N := N + 2) (m := m.toNat) (a := 0) (n := (sOn (u 0) m).toNat) n8.1 (by omega) (tO_top hC.2.2.2.1) (by decide) (by omega) hC.A hC.O (hC.bk.ext tO_ext hC.2.2.2.1) em hC.2.2.2.2.2.2.2.1 hC.2.2.2.2.2.2.2.2.1 ⟨_, isPm.own hC.O (by omega) em, by rw [sPut_i]; exact hC.C⟩
    rw [show ((m.toNat : Nat) : Int) = m by omega] at ko
    have fin : ∀ (u' : tW) (g' : zH) (bm : Int) (bo : Nat → Int), (0 ≤ bm ∧ bm ≤ 10000) → bOf (u 0) (oB 0) m.toNat (sOn (u 0) m).toNat (fun _ => True) bm bo → isPm (u 0) m.toNat (sOn (u 0) m).toNat bo → oW (u 0) m.toNat (sOn (u 0) m).toNat bo u u' → zExt (N + 2) (tO N (u 0 (179 + m).toNat) (fun q => u 0 (183 + 5 * m.toNat + q)) g) g' → zTop g' (N + 2 + 2) → ∀ env, zsub env [(2, .ref (b + 20 + m.toNat)), (3, .ref N)] → zW X (cQ (sH b u g) R (cdA 24 99 99)) (sH b u' g') 5 30 20 env [.int (iI bm)] := by
      intro u' g' bm bo hbm hb hp ho hge hgt env he
      refine zW.cut he ?_
      have h1 := hok ck u' g' bm bo hbm hb hp ho (tO_ext.tr hge (by omega)) hgt
      have lk1 := sH_ord (b := b) (u := u') (g := g') ck
      have lk2 := sH_orA (b := b) (u := u') (g := g') ck
      have lk3 : sH b u' g' N = some (oO (N + 1) (u 0 (179 + m).toNat)) := (sH_out (by omega)).trans ((hge N (by omega)).trans tO_0)
      have lk4 : sH b u' g' (N + 1) = some (aI 5 fun q => u 0 (183 + 5 * m.toNat + q)) := (sH_out (by omega)).trans ((hge (N + 1) (by omega)).trans tO_1)
      have e1 : u' 0 (179 + m).toNat = sOn (u 0) m := by rw [ho.1]; exact sPut_lo (by omega)
      have e2 : ∀ i, i < (sOn (u 0) m).toNat → u' 0 (183 + 5 * m.toNat + i) = bo i := fun i hi => by rw [ho.1]; exact sPut_at hi
      rw [e1] at lk1
      have kd := x3_diff lk1 lk2 lk3 lk4 on (fun p hp2 => by rw [e2 p (by omega)]; have := (hp.1 p (by omega)).1; omega) (fun p hp2 => by have := (o2 p (by omega) hp2).1; rw [show u 0 (183 + 5 * m.toNat + p) = sOr (u 0) m p from congrArg (u 0) (by omega)]; omega)
      rw [dfF_dif _ e2] at kd
      refine z_pop K dX1_reoptimize_20 rfl ?_
      refine z_aload_n K dX1_reoptimize_21 rfl rfl rfl ?_
      refine z_aload_n K dX1_reoptimize_22 rfl rfl rfl ?_
      refine z_callV K (kd) cV_X1_265_X3 (lk1) rfl rfl rfl (by omega) (by omega) (by omega) (Nat.le_of_ble_eq_true rfl) dX1_reoptimize_23 zrX (zrK ?_)
      exact z_iret K (by omega) (by omega) (h1) dX1_reoptimize_26
    have hx2 : ∀ g', (∀ m, m < N → g' m = g m) → sH b u g' 1040 = some (oX b sv T fl cl (w 10 0)) := fun g' h => (sH_out (by omega)).trans ((h 1040 (by omega)).trans ((sH_out (b := b) (u := u) (g := g) (by omega)).symm.trans (hx u)))
    have hx3 := hx2 _ (tO_ext (N := N) (k := u 0 (179 + m).toNat) (f := fun q => u 0 (183 + 5 * m.toNat + q)) (g := g))
    refine z_aload_n K dX1_reoptimize_6 rfl rfl rfl ?_
    refine z_callS K (kc) cS_X1_233 rfl rfl (by omega) (by omega) (by omega) (Nat.le_of_ble_eq_true rfl) dX1_reoptimize_7 zrX (zrK ?_)
    refine z_astore_n K dX1_reoptimize_10 rfl rfl (by decide) rfl ?_
    refine z_aload_n K dX1_reoptimize_11 rfl rfl rfl ?_
    refine z_get K fd_X1_16_1 (hx3) rfl dX1_reoptimize_12 ?_
    refine z_iload_n K dX1_reoptimize_15 rfl rfl ?_
    refine j_iconst K dX1_reoptimize_16 ?_
    refine z_callV K (ko) cV_X1_262_X2 (sH_shop) rfl rfl rfl (by omega) (by omega) (by omega) (Nat.le_of_ble_eq_true rfl) dX1_reoptimize_17 (fun q h1 hq => by obtain ⟨_, _, _, _, z, -⟩ := hq; cases z) ?_
    rintro v h1 ⟨u', g', bm, bo, z, rfl, hbm, hb, hp, ho, hge, hgt⟩
    cases z
    exact zW.widen (by omega) (by omega) (fin u' g' bm bo hbm hb hp ho hge hgt _ ⟨rfl, rfl, trivial⟩)
  refine z_aload_n K dX1_reoptimize_0 rfl rfl rfl ?_
  refine z_iload_n K dX1_reoptimize_1 rfl rfl ?_
  refine z_callV K (k0) cV_X1_146_X1 (hx _) rfl rfl rfl (by omega) (by omega) (by omega) (Nat.le_of_ble_eq_true rfl) dX1_reoptimize_2 (ckX fun ck_2 => z_out K rfl (by omega) (by omega) (hex ck_2)) (rkK fun ck_2 => ?_)
  refine z_astore_n K dX1_reoptimize_5 rfl rfl (by decide) rfl ?_
  exact main ck_2 _ ⟨rfl, rfl, rfl, trivial⟩
end XO9

