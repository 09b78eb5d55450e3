/-! ===== the component's operations: dispatch, repair ===== -/
section XP5
variable {b N : Nat} {u w : tW} {g : zH} {rl ea : Int}
/-- what is built does not depend on what is left open -/
theorem dsp_eq {s o rd st st' g fx g' fx' : Nat → Int} {t r : Int} (hA : WfA s) (hO : WfO s) (h : Tp s o (-1) 0 rd st) (ho : ∀ m : Nat, m < 4 → o m = 0) (hs : ∀ k : Int, 0 ≤ k → k < s 1 → 0 ≤ st k.toNat) (ht : 0 ≤ t ∧ t ≤ 999) (e : ∀ k : Int, 0 ≤ k → k < s 1 → st k.toNat = st' k.toNat) (hK : KI s st t 4 0 g fx) (hK' : KI s st' t 4 0 g' fx') : (bld r t 21 (sKp s st t 4) g fx).1 = (bld r t 21 (sKp s st' t 4) g' fx').1 := by
  have hK2 := hK'.cg hA (fun k k0 k1 => (e k k0 k1).symm)
  rw [← sKp_cg (t := t) hO e]
  have e0 : sKp s st t 4 0 = s 0 := if_neg (by omega)
  refine (bld_cg ht 21 _ _ _ _ _ (KI.bi hA hO h ho hs ht.2 hK) (fun j j0 j1 => ?_) (fun k hk => ?_)).1
  · rw [e0] at j1
    rw [hK.1 j j0 j1, hK2.1 j j0 j1]
  · obtain ⟨c1, c2⟩ := (KI.inn hA hO h hs hK k).mp hk
    have q : hI s st t 4 0 k = 1 := by rw [hI_4 (hA.2.1.2 k c1.1 c1.2).2.1.2]; exact if_pos c2
    rw [hK.2 k c1.1 c1.2 q, hK2.2 k c1.1 c1.2 q]
theorem sKp_clr {s st : Nat → Int} (hO : WfO s) (hs : ∀ k : Int, 0 ≤ k → k < s 1 → 0 ≤ st k.toNat) : sKp s st 0 4 = sClr s 4 := by
  funext i
  unfold sKp sClr
  by_cases c : 179 ≤ i ∧ i < 179 + 4
  · rw [if_pos c, if_pos c]
    obtain ⟨k1, k2, k3, -⟩ := kN_ok (s := s) (st := st) (t := 0) (m := ((i - 179 : Nat) : Int)) (s i).toNat 0
    have es : s i = sOn s ((i - 179 : Nat) : Int) := congrArg s (by omega)
    obtain ⟨on, o2, -⟩ := hO ((i - 179 : Nat) : Int) (by omega) (by omega)
    rcases Int.lt_or_le 0 (kN s st 0 ((i - 179 : Nat) : Int) (s i).toNat 0) with z | z
    · have q := (o2 0 (by omega) (by omega)).1
      have := k3 0 (by omega) z
      have := hs _ q.1 q.2
      omega
    · omega
  · rw [if_neg c, if_neg c]
theorem KI.z {s st g fx : Nat → Int} (hA : WfA s) (hO : WfO s) (hs : ∀ k : Int, 0 ≤ k → k < s 1 → 0 ≤ st k.toNat) (hg : ∀ j : Int, 0 ≤ j → j < s 0 → g j.toNat = 0) : KI s st 0 4 0 g fx := by
  have nx : ∀ m : Int, 0 ≤ m → m ≤ 3 → KI s st 0 m 0 g fx → KI s st 0 (m + 1) 0 g fx := fun m m0 m1 h => h.next hA hO ⟨m0, m1⟩ (by omega) (fun q q0 q1 => by
    have z := ((hO m m0 m1).2.1 q q0 q1).1
    exact hs _ z.1 z.2)
  exact nx 3 (by omega) (by omega) (nx 2 (by omega) (by omega) (nx 1 (by omega) (by omega) (nx 0 (by omega) (by omega) (KI.init hA hg))))
theorem ob_0 : ∀ m : Nat, m < 4 → oB 0 m = 0 := fun m hm => by unfold oB; simp
def dsQ (b N : Nat) (u : tW) (g : zH) (w : tW) (rl ea : Int) : zO → zH → Prop := fun z h' => ∃ rd st gx fx u' g' v, z = .inl (some (.int (iI v))) ∧ h' = sH b u' g' ∧ Tp (u 0) (oB 0) (-1) 0 rd st ∧ Tq (u 0) (oB 0) st ∧ cntU st (u 0 1).toNat = 0 ∧ KI (u 0) st ea 4 0 gx fx ∧ MkR (u' 0) (oB 0) v ∧ u' 0 = (bld rl ea 21 (sKp (u 0) st ea 4) gx fx).1 ∧ zExt N g g' ∧ CG b (N + 3) u' g' (wRow w (u' 0))
theorem x1_dispatched (hC : CG b N u g w) (hr : 0 ≤ rl ∧ rl ≤ 3) (hea : 0 ≤ ea ∧ ea ≤ 999) : zMet yX1_dispatched (ws_ yX1_dispatched cX1_dispatched 3 (some .int)) 9 [.ref 1040, .int (iI rl), .int (iI ea)] (sH b u g) (dsQ b N u g w rl ea) 3 30 := by
  have n8 := hC.n8
  obtain ⟨sv, T, fl, cl, a1, -⟩ := hC.2.2.2.2.2.2.2.2.2.2
  have hx : ∀ u' g', zExt N g g' → sH b u' g' 1040 = some (oX b sv T fl cl (w 10 0)) := fun u' g' h => (sH_out (by omega)).trans ((h 1040 (by omega)).trans a1)
  refine zMet.of (by decide) (Nat.le_of_ble_eq_true rfl) fun X K => ?_
  have mid : ∀ (u1 : tW) (rd st : Nat → Int), SK u u1 → Sch (u 0) u1 rd st → ∀ env, zsub env [(0, .ref 1040), (1, .int (iI rl)), (2, .int (iI ea))] → zW X (dsQ b N u g w rl ea) (sH b u1 g) 0 0 5 env [] := by
    intro u1 rd st sk sc env he
    refine zW.cut he ?_
    have e0 := sk.e0
    have hC1 := hC.sk sk
    have hs : ∀ k : Int, 0 ≤ k → k < u 0 1 → 0 ≤ st k.toNat := fun k k0 k1 => (cntU_0.mp sc.2.2.2.1) k.toNat (by omega)
    have e3 : ∀ k : Int, 0 ≤ k → k < u 0 1 → u1 3 k.toNat = st k.toNat := fun k k0 k1 => (sc.1 k k0 (by rw [e0]; exact k1)).2.2.1
    have hsk : ∀ t, sKp (u 0) (u1 3) t 4 = sKp (u 0) st t 4 := fun t => sKp_cg hC.O e3
    have hmn : ∀ m p q : Int, 0 ≤ m → m ≤ 3 → 0 ≤ p → p ≤ q → q < sOn (u1 0) m → ea ≤ u1 3 (sOr (u1 0) m p).toNat → ea ≤ u1 3 (sOr (u1 0) m q).toNat := fun m p q m0 m1 p0 pq q1 le => by
      rw [e0] at q1 le ⊢
      have b1 := ((hC.O m m0 m1).2.1 p p0 (by omega)).1
      have b2 := ((hC.O m m0 m1).2.1 q (by omega) q1).1
      rw [e3 _ b1.1 b1.2] at le
      rw [e3 _ b2.1 b2.2]
      have := sc.2.1.mono hC.A hC.O ⟨m0, m1⟩ (ob_0 _ (by omega)) p0 hs (q - p).toNat (by omega)
      rw [show p + ((q - p).toNat : Int) = q by omega] at this
      omega
    have hBI : ∀ gx fx, KI (u1 0) (u1 3) ea 4 0 gx fx → BI (sKp (u1 0) (u1 3) ea 4) gx fx := fun gx fx hK => by
      rw [e0] at hK ⊢
      rw [hsk]
      exact KI.bi hC.A hC.O sc.2.1 ob_0 hs hea.2 (hK.cg hC.A e3)
    have fr : sH b u1 g N = none := hC1.fr
    have ki := x10_init (b := b) (D := N) (u := u1) (g := g) (rl := rl) (ea := ea) n8.1 n8.2.2.1 hC.2.2.2.1
    have kr := x10_run (b := b) (D := N) (u := u1) (g := g) (rl := rl) (ea := ea) n8.1 n8.2.2.1 hC1.bk hC.2.2.2.1 hC1.A hC1.O hC1.2.2.2.2.2.2.2.2.2.1 hr hea hmn hBI
    have fin : ∀ (gx fx : Nat → Int) (v : tW) (g' : zH), KI (u1 0) (u1 3) ea 4 0 gx fx → (∀ f, f ≠ 0 → v f = u1 f) → v 0 = (bld rl ea 21 (sKp (u1 0) (u1 3) ea 4) gx fx).1 → zExt N g g' → zTop g' (N + 3) → ∀ env, zsub env [(0, .ref 1040)] → zW X (dsQ b N u g w rl ea) (sH b v g') 3 30 21 env [] := by
      intro gx fx v g' hK hv hv0 hge hgt env he
      refine zW.cut he ?_
      rw [e0] at hK hv0
      rw [hsk] at hv0
      have hK2 := hK.cg hC.A e3
      have hB := KI.bi hC.A hC.O sc.2.1 ob_0 hs hea.2 hK2
      obtain ⟨b1, b2, b3⟩ := bld_ok (u := rl) (t := ea) hea 20 _ _ _ hB (by have := hB.rr; omega)
      have hg : ∀ j : Int, 0 ≤ j → j < (bld rl ea (20 + 1) (sKp (u 0) st ea 4) gx fx).1 0 → (bld rl ea (20 + 1) (sKp (u 0) st ea 4) gx fx).2.1 j.toNat = sLen (bld rl ea (20 + 1) (sKp (u 0) st ea 4) gx fx).1 j := fun j j0 j1 => by
        rw [b3 0 (by omega)] at j1
        have h05 := hB.A.1.1
        rw [b2 j j0 j1]
        exact (b3 _ (by omega)).symm
      have b4 := b1.whole hg
      have b5 := b1.ac hg (oB 0)
      have b6 := b1.A
      have so : SO u v := sk.so.tr ⟨fun f a => hv f (by omega), by rw [hv 5 (by decide)], by rw [hv 5 (by decide)], fun z k => by rw [hv 3 (by decide)]; exact z k⟩
      have hC3 : CG b (N + 3) v g' (wRow w (v 0)) := hC.ord so (fun i hi => by rw [hv0]; exact (b3 i hi).trans (if_neg (by omega))) (by rw [hv0]; exact b6) (by rw [hv0]; exact b4) (by rw [hv0]; exact b5) hge hgt (by omega) wRow_sw wRow_0.symm
      have k5 := x1_cmp hC3
      have fin3 : ∀ u3 rd3 st3, SK v u3 → Sch (v 0) u3 rd3 st3 → dsQ b N u g w rl ea (.inl (some (.int (iI (gEnd (v 0) st3 (v 0 1).toNat))))) (sH b u3 g') := fun u3 rd3 st3 sk3 sc3 => ⟨rd, st, gx, fx, u3, g', _, rfl, rfl, sc.2.1, sc.2.2.1, sc.2.2.2.1, hK2, by rw [sk3.e0]; exact sc3.mkr, by rw [sk3.e0]; exact hv0, hge, by rw [sk3.e0]; exact hC3.sk sk3⟩
      have hx3 := hx v g' hge
      refine z_aload_n K dX1_dispatched_21 rfl rfl rfl ?_
      refine z_callV K (k5) cV_X1_158_X1 (hx3) rfl rfl rfl (by omega) (by omega) (by omega) (Nat.le_of_ble_eq_true rfl) dX1_dispatched_22 cmX (cmK fun u' rd st sk sc => ?_)
      exact z_iret K (by omega) (by omega) (fin3 u' rd st sk sc) dX1_dispatched_25
    have hxx := hx u1 g zExt.rf
    have hxn : ∀ c, zup (sH b u1 g) N c 1040 = some (oX b sv T fl cl (w 10 0)) := fun c => (zup_ne (by omega)).trans hxx
    have lkd : sH b u1 (dp N b rl ea (fun _ => 0) (fun _ => 0) g) N = some (.inr (9, [.ref b, .int (iI rl), .int (iI ea), .ref (N + 1), .ref (N + 2)])) := (sH_out (by omega)).trans dp_0
    refine z_new K (N) nw_X1_248 fr (by omega) (by omega) (by omega) dX1_dispatched_5 ?_
    refine z_dup K dX1_dispatched_8 rfl ?_
    refine z_aload_n K dX1_dispatched_9 rfl rfl rfl ?_
    refine z_get K fd_X1_16_1 (hxn _) rfl dX1_dispatched_10 ?_
    refine z_iload_n K dX1_dispatched_13 rfl rfl ?_
    refine z_iload_n K dX1_dispatched_14 rfl rfl ?_
    refine z_cI (fs := []) K (ki) cI_X1_250 rfl rfl (by omega) (by omega) (by omega) (Nat.le_of_ble_eq_true rfl) dX1_dispatched_15 zvX (zvK ?_)
    refine z_callV K (kr) cV_X1_253_X10 (lkd) rfl rfl rfl (by omega) (by omega) (by omega) (Nat.le_of_ble_eq_true rfl) dX1_dispatched_18 (fun q h1 hq => by obtain ⟨_, _, _, _, z, -⟩ := hq; cases z) ?_
    rintro v h1 ⟨gx, fx, v, g', z, rfl, hK, hv, hv0, hge, hgt⟩
    cases z
    exact zW.widen (by omega) (by omega) (fin gx fx v g' hK hv hv0 hge hgt _ ⟨rfl, trivial⟩)
  have k4 := x1_cmp hC
  have hx0 := hx u g zExt.rf
  refine z_aload_n K dX1_dispatched_0 rfl rfl rfl ?_
  refine z_callV K (k4) cV_X1_158_X1 (hx0) rfl rfl rfl (by omega) (by omega) (by omega) (Nat.le_of_ble_eq_true rfl) dX1_dispatched_1 cmX (cmK fun u' rd st sk sc => ?_)
  refine z_pop K dX1_dispatched_4 rfl ?_
  exact mid u' rd st sk sc _ ⟨rfl, rfl, rfl, trivial⟩
theorem ds_fin {R : Int → tW → Prop} {z : zO} {h' : zH} (hC : CG b N u g w) (hI : TI w) (hea : 0 ≤ ea ∧ ea ≤ 999) (hq : dsQ b N u g w rl ea z h')
    (hR : ∀ v' w', R v' w' → ∀ rd st, Tp (u 0) (oB 0) (-1) 0 rd st → Tq (u 0) (oB 0) st → cntU st (u 0 1).toNat = 0 → ∃ st' g' fx', (∀ k : Int, 0 ≤ k → k < u 0 1 → st k.toNat = st' k.toNat) ∧ KI (u 0) st' ea 4 0 g' fx' ∧ bQ w rl ea (sKp (u 0) st' ea 4) g' fx' v' w') : cQ (sH b u g) R (cdA 22 99 99) z h' := by
  have n8 := hC.n8
  obtain ⟨rd, st, gx, fx, u', g', v, rfl, rfl, tp, tq, h0, hK, mk, e0, hge, hC3⟩ := hq
  refine ⟨fun q hq => (sH_out (by omega)).trans ((hge q (by omega)).trans (hC.lo q hq).symm), Or.inl ⟨_, rfl, fun v' w' r => ?_⟩⟩
  obtain ⟨st', g2, fx2, es, hK', rd3, st3, t1, t2, t3, t4, t5, t6⟩ := hR v' w' r rd st tp tq h0
  have hs : ∀ k : Int, 0 ≤ k → k < u 0 1 → 0 ≤ st k.toNat := fun k k0 k1 => (cntU_0.mp h0) k.toNat (by omega)
  have eq := dsp_eq (r := rl) hC.A hC.O tp ob_0 hs hea es hK hK'
  rw [← eq, ← e0] at t1 t2 t4 t6
  have mk2 : MkR (u' 0) (oB 0) v' := ⟨rd3, st3, t1.cg hC3.A hI.ob0, t2.cg hC3.A hI.ob0, t6⟩
  exact ⟨t5, mk2.uniq hC3.A hC3.O mk, hC3.same (fun f a b c => (t3 f (by simp; omega)).trans (wRow_f (by omega)).symm) (by rw [t4, wRow_0])⟩
theorem x1_dispatch {r : Int} (hC : CG b N u g w) (hI : TI w) (hr : i32 r) : zMet yX1_dispatch (ws_ yX1_dispatch cX1_dispatch 2 (some .int)) 10 [.ref 1040, .int (iI r)] (sH b u g) (cQ (sH b u g) (pubQ w (tcDisp r) (bQ w r 0 (sClr (w 0) 4) (gClr (w 18) 5) (w 19))) (cdA 22 99 99)) 4 36 := by
  have n8 := hC.n8
  have er := hC.row
  obtain ⟨sv, T, fl, cl, hx⟩ := hC.xg
  have k1 := x1_inG (h := sH b u g) (x := r) (a := 0) (b := 3) hr (by omega) (by omega)
  have k2 := x1_check (h := sH b u g) (N := N) (v := bI (0 ≤ r ∧ r ≤ 3)) hC.am (b01r _) hC.fr n8.2.2.2
  generalize hR : pubQ w (tcDisp r) (bQ w r 0 (sClr (w 0) 4) (gClr (w 18) 5) (w 19)) = R
  have hex : ¬ (0 ≤ r ∧ r ≤ 3) → cQ (sH b u g) R (cdA 22 99 99) (.inr N) (zup (sH b u g) N (oEx 22 (sH b u g) N)) := fun ck => cQ.ex hC hC.lo (by decide) (fun v' w' q => by rw [← hR] at q; exact pubQ.ex q (if_neg ck) (by decide))
  have kd : (0 ≤ r ∧ r ≤ 3) → zMet yX1_dispatched (ws_ yX1_dispatched cX1_dispatched 3 (some .int)) 9 [.ref 1040, .int (iI r), .int (iI 0)] (sH b u g) (cQ (sH b u g) R (cdA 22 99 99)) 3 30 := fun ck => (x1_dispatched hC ck (by omega)).weaken (fun z h' hq => ds_fin hC hI (by omega) hq (fun v' w' q rd st tp tq h0 => by
    rw [← hR] at q
    have hs : ∀ k : Int, 0 ≤ k → k < u 0 1 → 0 ≤ st k.toNat := fun k k0 k1 => (cntU_0.mp h0) k.toNat (by omega)
    have h05 := hC.A.1.1
    refine ⟨st, gClr (w 18) 5, w 19, fun _ _ _ => rfl, KI.z hC.A hC.O hs (fun j j0 j1 => if_pos (by omega)), ?_⟩
    rw [sKp_clr hC.O hs, er]
    exact q.1 (if_pos ck)))
  refine zMet.of (by decide) (Nat.le_of_ble_eq_true rfl) fun X K => ?_
  refine z_iload_n K dX1_dispatch_0 rfl rfl ?_
  refine j_iconst K dX1_dispatch_1 ?_
  refine j_iconst K dX1_dispatch_2 ?_
  refine z_callS K (k1) cS_X1_3 rfl rfl (by omega) (by omega) (by omega) (Nat.le_of_ble_eq_true rfl) dX1_dispatch_3 zrX (zrK ?_)
  refine z_callS K (k2) cS_X1_80 rfl rfl (by omega) (by omega) (by omega) (Nat.le_of_ble_eq_true rfl) dX1_dispatch_6 (ckX fun ck_6 => z_out K rfl (by omega) (by omega) (hex (fun q => ck_6 (by rw [show bI (0 ≤ r ∧ r ≤ 3) = 1 from if_pos q]; decide)))) (ckK fun ck_6 => ?_)
  have ck := bI_n ck_6
  refine z_aload_n K dX1_dispatch_9 rfl rfl rfl ?_
  refine z_iload_n K dX1_dispatch_10 rfl rfl ?_
  refine j_iconst K dX1_dispatch_11 ?_
  refine z_callV K (kd ck) cV_X1_256_X1 (hx _) rfl rfl rfl (by omega) (by omega) (by omega) (Nat.le_of_ble_eq_true rfl) dX1_dispatch_12 (fun q h1 hq => z_out K rfl (by omega) (by omega) hq) ?_
  rintro v h1 hq
  obtain ⟨-, ⟨v9, z, -⟩ | ⟨_, _, _, z, -⟩⟩ := id hq
  rotate_left
  · cases z
  cases z
  exact z_iret K (by omega) (by omega) (hq) dX1_dispatch_15
theorem x1_repair {t r : Int} (hC : CG b N u g w) (hI : TI w) (ht : i32 t) (hr : i32 r) : zMet yX1_repair (ws_ yX1_repair cX1_repair 3 (some .int)) 10 [.ref 1040, .int (iI t), .int (iI r)] (sH b u g) (cQ (sH b u g) (pubQ w (tcRep t r) (repQ w r t)) (cdA 22 99 99)) 4 36 := by
  have n8 := hC.n8
  have er := hC.row
  obtain ⟨sv, T, fl, cl, hx⟩ := hC.xg
  have k1 := x1_inG (h := sH b u g) (x := t) (a := 0) (b := 999) ht (by omega) (by omega)
  have k2 := x1_inG (h := sH b u g) (x := r) (a := 0) (b := 3) hr (by omega) (by omega)
  have kc := fun v hv => x1_check (h := sH b u g) (N := N) (v := v) hC.am hv hC.fr n8.2.2.2
  generalize hR : pubQ w (tcRep t r) (repQ w r t) = R
  have hex : ¬ ((0 ≤ t ∧ t ≤ 999) ∧ 0 ≤ r ∧ r ≤ 3) → cQ (sH b u g) R (cdA 22 99 99) (.inr N) (zup (sH b u g) N (oEx 22 (sH b u g) N)) := fun ck => cQ.ex hC hC.lo (by decide) (fun v' w' q => by rw [← hR] at q; exact pubQ.ex q (if_neg ck) (by decide))
  have kd : ((0 ≤ t ∧ t ≤ 999) ∧ 0 ≤ r ∧ r ≤ 3) → zMet yX1_dispatched (ws_ yX1_dispatched cX1_dispatched 3 (some .int)) 9 [.ref 1040, .int (iI r), .int (iI t)] (sH b u g) (cQ (sH b u g) R (cdA 22 99 99)) 3 30 := fun ck => (x1_dispatched hC ck.2 ck.1).weaken (fun z h' hq => ds_fin hC hI ck.1 hq (fun v' w' q rd st tp tq h0 => by
    rw [← hR] at q
    obtain ⟨rd', st', g', fx', q1, q2, q3, q4⟩ := q.1 (if_pos ck)
    rw [← er] at q1 q2 q3 q4
    exact ⟨st', g', fx', fun k k0 k1 => (tp.same hC.A hC.O (q1.cg hC.A hI.ob0) (q2.cg hC.A hI.ob0) h0 k k0 k1).2, q3, q4⟩))
  refine zMet.of (by decide) (Nat.le_of_ble_eq_true rfl) fun X K => ?_
  have bad : ¬ ((0 ≤ t ∧ t ≤ 999) ∧ 0 ≤ r ∧ r ≤ 3) → ∀ env, zsub env [] → zW X (cQ (sH b u g) R (cdA 22 99 99)) (sH b u g) 0 0 24 env [] := by
    intro h1 env he
    refine zW.cut he ?_
    have kc0 := kc 0 (by omega)
    refine j_iconst K dX1_repair_24 ?_
    refine z_callS K (kc0) cS_X1_80 rfl rfl (by omega) (by omega) (by omega) (Nat.le_of_ble_eq_true rfl) dX1_repair_25 (ckX fun ck_25 => z_out K rfl (by omega) (by omega) (hex h1)) (ckK fun ck_25 => ?_)
    exact absurd rfl ck_25
  have kc1 := kc 1 (by omega)
  refine z_iload_n K dX1_repair_0 rfl rfl ?_
  refine j_iconst K dX1_repair_1 ?_
  refine j_sipush K dX1_repair_2 (by decide +kernel) ?_
  refine z_callS K (k1) cS_X1_3 rfl rfl (by omega) (by omega) (by omega) (Nat.le_of_ble_eq_true rfl) dX1_repair_5 zrX (zrK ?_)
  refine j_if_eq (tgt := 24) K dX1_repair_8 rfl (b01r _) (fun c_8 => ?_) (fun c_8 => ?_)
  · exact bad (fun q => by first | exact bI_y c_17 q.2 | exact bI_y c_8 q.1) _ trivial
  · refine z_iload_n K dX1_repair_11 rfl rfl ?_
    refine j_iconst K dX1_repair_12 ?_
    refine j_iconst K dX1_repair_13 ?_
    refine z_callS K (k2) cS_X1_3 rfl rfl (by omega) (by omega) (by omega) (Nat.le_of_ble_eq_true rfl) dX1_repair_14 zrX (zrK ?_)
    refine j_if_eq (tgt := 24) K dX1_repair_17 rfl (b01r _) (fun c_17 => ?_) (fun c_17 => ?_)
    · exact bad (fun q => by first | exact bI_y c_17 q.2 | exact bI_y c_8 q.1) _ trivial
    · refine j_iconst K dX1_repair_20 ?_
      refine z_goto (tgt := 25) K dX1_repair_21 rfl ?_
      refine z_callS K (kc1) cS_X1_80 rfl rfl (by omega) (by omega) (by omega) (Nat.le_of_ble_eq_true rfl) dX1_repair_25 (ckX fun ck_25 => absurd (by decide) ck_25) (ckK fun ck_25 => ?_)
      refine z_aload_n K dX1_repair_28 rfl rfl rfl ?_
      refine z_iload_n K dX1_repair_29 rfl rfl ?_
      refine z_iload_n K dX1_repair_30 rfl rfl ?_
      refine z_callV K (kd ⟨bI_n c_8, bI_n c_17⟩) cV_X1_256_X1 (hx _) rfl rfl rfl (by omega) (by omega) (by omega) (Nat.le_of_ble_eq_true rfl) dX1_repair_31 (fun q h1 hq => z_out K rfl (by omega) (by omega) hq) ?_
      rintro v h1 hq
      obtain ⟨-, ⟨v9, z, -⟩ | ⟨_, _, _, z, -⟩⟩ := id hq
      rotate_left
      · cases z
      cases z
      exact z_iret K (by omega) (by omega) (hq) dX1_repair_34
end XP5

