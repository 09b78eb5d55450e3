/-! ===== the component's operations: swap, move (2) ===== -/
/-- what a change of the orders ends with: the row is put back exactly -/
def chE (w : tW) (s1 : Nat → Int) (v : Int) (w' : tW) : Prop := chg w s1 v w' ∧ (w' 3 0 = 3 → w' 0 = w 0)
section XP3
variable {b N M : Nat} {u u' w w' : tW} {g g' : zH} {s s1 : Nat → Int} {R : Int → tW → Prop}
theorem CG.fl {sv fl cl : Value} {T n q : Nat} {c c7 : Nat → Int} (h : CG b N u g w) (hx : g 1040 = some (oX b sv T fl cl (w 10 0))) (hc : fC b g c n 0 q) (h7 : c7 0 = (n : Int) + 1) : CG b N u (zup g 1040 (oX b sv T (.ref q) cl (w 10 0))) (fun f => if f = 6 then c else if f = 7 then c7 else w f) := by
  obtain ⟨a1, a2, a3, a4, a5, a6, a7, a8, a9, a10, sv', T', fl', cl', c1, c2, c3, c4, c5⟩ := h
  rw [hx] at c1
  cases c1
  have e : ∀ q, q ≠ 6 → q ≠ 7 → (fun q => if q = 6 then c else if q = 7 then c7 else w q) q = w q := fun q h1 h2 => (if_neg h1).trans (if_neg h2)
  exact ⟨a1, a2, a3.up40, fun m hm => (zup_ne (by omega)).trans (a4 m hm), a5, a6, a7.up40 hx, a8, a9, a10, sv, T, .ref q, cl, zup_at _ _ _, c2.mv a4 kp_40 (Or.inl rfl) (Nat.le_refl _) (e 2 (by decide) (by decide)) (e 1 (by decide) (by decide)), c3.mv a4 kp_40 (Or.inl rfl) (e 4 (by decide) (by decide)) (e 5 (by decide) (by decide)), Or.inr ⟨n, q, h7, rfl, fC.mv a4 kp_40 (Or.inl rfl) n 0 q hc⟩, c5.mv a4 kp_40 (Or.inl rfl) (e 8 (by decide) (by decide)) (e 9 (by decide) (by decide))⟩
theorem fO.mk {q p ci j : Nat} {l : List Value} {c c' : Int} (ha : aw b q) (hf : fcl ci j) (hg : g q = some (.inr (ci, l))) (h0 : l[0]? = some (.ref p)) (h1 : l[j]? = some (.int (iI c))) (e : c' = c) : fO b g q p c' := ⟨ha, ci, j, l, hf, hg, h0, by rw [e]; exact h1⟩
theorem cy_fC {x n : Int} {c : Nat → Int} (hb : 1100 ≤ b) (hN : b + 72 ≤ N) (c0 : c 0 = 1) (c1 : c 1 = 100 + x) (c2 : c 2 = n) : fC b (cyH g N (N + 1) (N + 2) x n) c 2 0 N := by
  have aw' : ∀ m, N ≤ m → aw b m := fun m hm => ⟨by omega, Or.inr (by omega)⟩
  refine ⟨N + 1, by omega, fO.mk (aw' _ (by omega)) (Or.inr ⟨Or.inl rfl, rfl⟩) (zup_at _ _ _) rfl rfl c0, N + 2, by omega, fO.mk (aw' _ (by omega)) (Or.inl ⟨rfl, rfl⟩) ((zup_ne (by omega)).trans ((zup_ne (by omega)).trans (zup_at _ _ _))) rfl rfl c1, fO.mk (aw' _ (by omega)) (Or.inl ⟨rfl, rfl⟩) ((zup_ne (by omega)).trans (zup_at _ _ _)) rfl rfl c2⟩
theorem isFst.uq {st : Nat → Int} {n : Nat} {x y : Int} (h : isFst st n x) (k : isFst st n y) : x = y := by
  rcases Int.lt_trichotomy x y with z | z | z
  · have := k.2.2 x.toNat (by have := h.1; omega); have := h.2.1; omega
  · exact z
  · have := h.2.2 y.toNat (by have := k.1; omega); have := k.2.1; omega
/-- a change is held against the reference's -/
theorem chg_fin {sv fl cl : Value} {T : Nat} (hC : CG b N u g w) (hI : TI w) (a1 : g 1040 = some (oX b sv T fl cl (w 10 0))) (hA1 : WfA s1) (hO1 : WfO s1) (lo : ∀ i, i < 179 → s1 i = u 0 i) (hx1 : s1 1 = u 0 1) {O : Nat} {k : Int} {f : Nat → Int} {z : zO} {h' : zH} (hz : ∃ u' rd st, seQ b (N + 2) (wRow u s1) rd st u' ∧ ((cntU st (wRow u s1 0 1).toNat = 0 ∧ z = .inl (some (.int (iI (gEnd (wRow u s1 0) st (wRow u s1 0 1).toNat)))) ∧ h' = sH b u' (tO N k f g)) ∨ (cntU st (wRow u s1 0 1).toNat ≠ 0 ∧ z = .inr (N + 2 + 3) ∧ ∃ x fs, isFst st (wRow u s1 0 1).toNat x ∧ h' = zup (sH b (wRow u' (u 0)) (zup (cyH (tO N k f g) (N + 2) (N + 2 + 1) (N + 2 + 2) x (cntU st (wRow u s1 0 1).toNat)) 1040 (oX b sv T (.ref (N + 2)) cl (w 10 0)))) (N + 2 + 3) (.inr (23, fs)))))
    {cd : Nat → Int} (hcd : cd 23 = 3) (hR : ∀ v' w', R v' w' → chE w s1 v' w') : cQ (sH b u g) R cd z h' := by
  have n8 := hC.n8
  have er := hC.row
  obtain ⟨u', rd, st, ⟨q1, q2, q3, q4, q5⟩, hz⟩ := hz
  have r0 : wRow u s1 0 = s1 := wRow_0
  rw [r0] at q3 q4 q5 hz
  have so : SO u u' := SO.row.tr ⟨fun f hf => q1.1 f (by omega) (by omega) (by omega) (by omega) (by omega), q1.2.1, q1.2.2.1, q1.2.2.2⟩
  have u0 : u' 0 = s1 := q1.e0.trans r0
  have tie : ∀ rd' st', Tp s1 (w 13) (-1) 0 rd' st' → Tq s1 (w 13) st' → cntU st (s1 1).toNat = cntU st' (s1 1).toNat ∧ (∀ x, isFst st (s1 1).toNat x → isFst st' (s1 1).toNat x) ∧ mkS s1 st = mkS s1 st' := fun rd' st' t1 t2 => by
    have h20 := hA1.2.1.1
    have eo : ∀ m : Nat, m < 4 → w 13 m = oB 0 m := hI.ob0
    have t3 := t1.cg hA1 eo
    have t4 := t2.cg hA1 eo
    have sg : ∀ i : Nat, i < (s1 1).toNat → (st i < 0 ↔ st' i < 0) := fun i hi => by
      have x1 := q3.uniq hA1 hO1 t3 t4 ((st i).toNat + 1) i (by omega) (by omega)
      have x2 := t3.uniq hA1 hO1 q3 q4 ((st' i).toNat + 1) i (by omega) (by omega)
      rw [Int.toNat_natCast] at x1 x2
      constructor
      · intro z
        refine Classical.byContradiction fun z2 => ?_
        have := (x2 (by omega) (by omega)).1
        omega
      · intro z
        refine Classical.byContradiction fun z2 => ?_
        have := (x1 (by omega) (by omega)).1
        omega
    refine ⟨cntU_ext sg, fun x hx => ⟨hx.1, (sg x.toNat (by have := hx.1; omega)).mp hx.2.1, fun i hi => ?_⟩, mkS_uniq hA1 hO1 q3 q4 t3 t4⟩
    have a := hx.2.2 i hi
    have b := sg i (by have := hx.1; omega)
    omega
  rcases hz with ⟨h0, rfl, rfl⟩ | ⟨h0, rfl, x, fs, hf, rfl⟩
  · refine ⟨fun m hm => (sH_out (by omega)).trans ((tO_o (by omega)).trans (hC.lo m hm).symm), Or.inl ⟨_, rfl, fun v' w' r => ?_⟩⟩
    obtain ⟨⟨rd', st', t1, t2, t3, t4⟩, -⟩ := hR v' w' r
    obtain ⟨e1, e2, e3⟩ := tie rd' st' t1 t2
    obtain ⟨y1, y2, y3, y4, y5, y6⟩ := t4.resolve_right (fun z => z.1 (e1.symm.trans h0))
    refine ⟨y4, ?_, b, N + 2, u', _, rfl, ?_⟩
    · rw [y2]
      unfold mkS at e3
      rw [if_neg (by omega), if_neg (by omega)] at e3
      exact e3.symm
    · refine hC.ord so (fun i hi => by rw [u0]; exact lo i hi) (by rw [u0]; exact hA1) (by rw [u0]; exact hO1) (by rw [u0]; exact ACy.of hA1 hO1 q3 h0) tO_ext (tO_top hC.2.2.2.1) (by omega) (fun q a b c => ?_) (by rw [u0, y3])
      by_cases z6 : q = 6
      · subst z6; exact y5
      by_cases z7 : q = 7
      · subst z7; exact y6
      exact t3 q (by simp; omega)
  · refine ⟨fun m hm => (zup_ne (by omega)).trans ((sH_out (by omega)).trans ((zup_ne (by omega)).trans ((cyH_lo m (by omega)).trans ((tO_o (by omega)).trans (hC.lo m hm).symm)))), Or.inr ⟨_, 23, fs, rfl, zup_at _ _ _, by rw [hcd]; decide, fun v' w' r => ?_⟩⟩
    obtain ⟨⟨rd', st', t1, t2, t3, t4⟩, t5⟩ := hR v' w' r
    obtain ⟨e1, e2, e3⟩ := tie rd' st' t1 t2
    obtain ⟨y1, y2, y3, x', y4, y5, y6, y7, y8, y9⟩ := t4.resolve_left (fun z => h0 (e1.trans z.1))
    obtain rfl := (e2 x hf).uq y4
    have hC1 : CG b (N + 5) (wRow u' (u 0)) (cyH (tO N k f g) (N + 2) (N + 2 + 1) (N + 2 + 2) x (cntU st (s1 1).toNat)) w := hC.so (so.tr SO.row) wRow_0 (tO_ext.tr cyH_lo (by omega)) (cyH_top (tO_top hC.2.2.2.1)) (by omega)
    have lx : cyH (tO N k f g) (N + 2) (N + 2 + 1) (N + 2 + 2) x (cntU st (s1 1).toNat) 1040 = some (oX b sv T fl cl (w 10 0)) := (cyH_lo 1040 (by omega)).trans ((tO_o (by omega)).trans a1)
    have hC2 := hC1.fl (c7 := w' 7) lx (cy_fC (c := w' 6) n8.2.1 (by omega) y6 y7 (by rw [y8, e1])) y5
    refine ⟨by rw [y3, hcd], ?_⟩
    refine hC2.up (w' := w') (fun q a b c => ?_) ?_
    · by_cases z6 : q = 6
      · subst z6; rfl
      by_cases z7 : q = 7
      · subst z7; rfl
      · exact (t3 q (by simp; omega)).trans ((if_neg z6).trans (if_neg z7)).symm
    · exact t5 y3
theorem x1_swap {m p : Int} (hC : CG b N u g w) (hI : TI w) (hm : i32 m) (hp : i32 p) : zMet yX1_swap (ws_ yX1_swap cX1_swap 5 (some .int)) 10 [.ref 1040, .int (iI m), .int (iI p)] (sH b u g) (cQ (sH b u g) (pubQ w (tcSwap w m p) (chE w (sXc (w 0) m p))) (cdA 24 25 23)) 10 70 := by
  have n8 := hC.n8
  have er := hC.row
  obtain ⟨sv, T, fl, cl, a1, -⟩ := hC.2.2.2.2.2.2.2.2.2.2
  have hx : ∀ u' g', zExt N g g' → sH b u' g' 1040 = some (oX b sv T fl cl (w 10 0)) := fun u' g' h => (sH_out (by omega)).trans ((h 1040 (by omega)).trans a1)
  have k0 := x1_orderOf hC hm
  generalize hR : pubQ w (tcSwap w m p) (chE w (sXc (w 0) m p)) = R
  have hex : ¬ (0 ≤ m ∧ m ≤ 3) → cQ (sH b u g) R (cdA 24 25 23) (.inr N) (zup (sH b u g) N (oEx 24 (sH b u g) N)) := fun ck => cQ.ex hC hC.lo (by decide) (fun v' w' r => by rw [← hR] at r; exact pubQ.ex r (if_pos ck) (by decide))
  have hex2 : (0 ≤ m ∧ m ≤ 3) → ¬ (0 ≤ p ∧ p ≤ u 0 (179 + m).toNat - 2) → cQ (sH b u g) R (cdA 24 25 23) (.inr N) (zup (sH b u g) N (oEx 25 (sH b u g) N)) := fun c1 ck => cQ.ex hC hC.lo (by decide) (fun v' w' r => by rw [← hR] at r; exact pubQ.ex r ((if_neg (not_not_intro c1)).trans (if_pos (by rw [← er]; exact ck))) (by decide))
  refine zMet.of (by decide) (Nat.le_of_ble_eq_true rfl) fun X K => ?_
  have main : (0 ≤ m ∧ m ≤ 3) → (0 ≤ p ∧ p ≤ u 0 (179 + m).toNat - 2) → ∀ env, zsub env [(0, .ref 1040), (2, .int (iI p)), (3, .ref (b + 20 + m.toNat))] → zW X (cQ (sH b u g) R (cdA 24 25 23)) (sH b u g) 2 12 20 env [] := by
    intro c1 c2 env he
    refine zW.cut he ?_
    have on := (hC.O m c1.1 c1.2).1
    unfold sOn at on
    have kc := x1_copy (u := u) (m := m) hC.2.2.2.1 n8.2.2.1 n8.1 c1
    obtain ⟨M, rfl⟩ : ∃ M : Nat, m = M := ⟨m.toNat, by omega⟩
    obtain ⟨P, rfl⟩ : ∃ P : Nat, p = P := ⟨p.toNat, by omega⟩
    rw [Int.toNat_natCast] at kc
    have e9 : (179 + (M : Int)).toNat = 179 + M := by omega
    rw [e9] at on c2 kc
    have hA1 := sXc_A (m := (M : Int)) (p := (P : Int)) c1.1 c2.1 hC.A
    have hO1 := sXc_O (m := (M : Int)) (p := (P : Int)) hC.A hC.O c1 ⟨c2.1, by unfold sOn; rw [e9]; omega⟩
    have lo : ∀ i, i < 183 → sXc (u 0) M P i = u 0 i := fun i hi => sXc_lo c1.1 c2.1 hi
    have ksw := x3_swap (p := P) (sH_oN (b := b) (u := u) (m := M) (g := tO N (u 0 (179 + M)) (fun q => u 0 (183 + 5 * M + q)) g) (by omega)) (sH_rN (m := M) (by omega)) (by omega) (by omega)
    rw [sH_rowF (by omega) hC.A.1, sPut_ex (by omega)] at ksw
    have kst := x1_settled (u := wRow u (sXc (u 0) M P)) (g := tO N (u 0 (179 + M)) (fun q => u 0 (183 + 5 * M + q)) g) (N := N + 2) (O := N) (M := M) (s := u 0) ((tO_o (by omega)).trans a1) n8.2.1 (by omega) (by omega) (hC.2.2.1.ext tO_ext (by omega)) (tO_top hC.2.2.2.1) (by rw [wRow_0]; exact hA1) (by rw [wRow_0]; exact hO1) ((SO.row.bk hC.A.2.2.2.2.2 (fun i hi => by rw [wRow_0]; exact lo i (by omega)) hC.bk).ext tO_ext hC.2.2.2.1) (by rw [wRow_f (by decide)]; exact hC.2.2.2.2.2.2.2.1) (by rw [wRow_f (by decide)]; exact hC.2.2.2.2.2.2.2.2.1) tO_0 tO_1 n8.2.2.1 (by rw [wRow_0, ← sPut_ex (by omega), sPut_2, sPut_i])
    have kst2 := kst.weaken (Q' := cQ (sH b u g) R (cdA 24 25 23)) (fun z h' hq => chg_fin (O := N) hC hI a1 hA1 hO1 (fun i hi => lo i (by omega)) (lo 1 (by omega)) hq rfl (fun v' w' r => by rw [← hR] at r; rw [er]; exact r.1 ((if_neg (not_not_intro c1)).trans (if_neg (not_not_intro (by rw [← er, e9]; exact c2))))))
    have lkc : ∀ k f, sH b u (tO N k f g) (b + 20 + M) = some (oO (b + 24 + M) (u 0 (179 + M))) := fun k f => sH_oN (by omega)
    refine z_aload_n K dX1_swap_20 rfl rfl rfl ?_
    refine z_callS K (kc) cS_X1_233 rfl rfl (by omega) (by omega) (by omega) (Nat.le_of_ble_eq_true rfl) dX1_swap_21 zrX (zrK ?_)
    refine z_astore K dX1_swap_24 rfl (by decide) rfl ?_
    refine z_aload_n K dX1_swap_26 rfl rfl rfl ?_
    refine z_iload_n K dX1_swap_27 rfl rfl ?_
    refine z_callV K (ksw) cV_X1_237_X3 (lkc _ _) rfl rfl rfl (by omega) (by omega) (by omega) (Nat.le_of_ble_eq_true rfl) dX1_swap_28 zvX (zvK ?_)
    refine z_aload_n K dX1_swap_31 rfl rfl rfl ?_
    refine z_aload_n K dX1_swap_32 rfl rfl rfl ?_
    refine z_aload K dX1_swap_33 rfl rfl ?_
    refine z_cVW K kst2 cV_X1_241_X1 (hx _ _ tO_ext) rfl rfl rfl (by omega) (by omega) (by omega) (Nat.le_of_ble_eq_true rfl) dX1_swap_35 (fun q h1 hq => z_out K rfl (by omega) (by omega) hq) (fun v h1 hq => ?_)
    obtain ⟨-, ⟨v9, z, -⟩ | ⟨_, _, _, z, -⟩⟩ := id hq
    rotate_left
    · cases z
    cases z
    exact z_iret K (by omega) (by omega) (hq) dX1_swap_38
  refine z_aload_n K dX1_swap_0 rfl rfl rfl ?_
  refine z_iload_n K dX1_swap_1 rfl rfl ?_
  refine z_callV K (k0) cV_X1_146_X1 (hx _ _ zExt.rf) rfl rfl rfl (by omega) (by omega) (by omega) (Nat.le_of_ble_eq_true rfl) dX1_swap_2 (ckX fun ck_2 => z_out K rfl (by omega) (by omega) (hex ck_2)) (rkK fun ck_2 => ?_)
  have hon := (hC.O m ck_2.1 ck_2.2).1
  unfold sOn at hon
  refine z_astore_n K dX1_swap_5 rfl rfl (by decide) rfl ?_
  refine z_iload_n K dX1_swap_6 rfl rfl ?_
  refine j_iconst K dX1_swap_7 ?_
  refine z_aload_n K dX1_swap_8 rfl rfl rfl ?_
  refine z_get K fd_X1_150_3 (sH_ord ⟨by omega, by omega⟩) rfl dX1_swap_9 ?_
  refine j_iconst K dX1_swap_12 ?_
  refine j_isub K dX1_swap_13 ?_
  refine z_callS K (x1_inG (h := sH b u g) (x := p) (a := 0) (b := u 0 (179 + m).toNat - 2) hp (by omega) (by omega)) cS_X1_3 rfl rfl (by omega) (by omega) (by omega) (Nat.le_of_ble_eq_true rfl) dX1_swap_14 zrX (zrK ?_)
  refine z_callS K (x1_checkElement (h := sH b u g) (N := N) hC.am (b01r _) hC.fr n8.2.2.2) cS_X1_152 rfl rfl (by omega) (by omega) (by omega) (Nat.le_of_ble_eq_true rfl) dX1_swap_17 (ckX fun ck_17 => z_out K rfl (by omega) (by omega) (hex2 ck_2 (fun q => ck_17 (by rw [if_pos q]; decide)))) (ckK fun ck_17 => ?_)
  exact main ck_2 (bI_n ck_17) _ ⟨rfl, rfl, rfl, trivial⟩
end XP3

