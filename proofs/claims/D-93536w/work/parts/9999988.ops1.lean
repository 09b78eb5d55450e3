/-! ===== the component's operations, held against the reference: what answers alone ===== -/
/-- which exception is which, by its place in the method's list -/
def cdA (a b c : Nat) (ci : Nat) : Int := if ci = a then 1 else if ci = b then 2 else if ci = c then 3 else 0
section XO0
variable {b N : Nat} {u w : tW} {g h0 : zH} {R : Int → tW → Prop} {cd : Nat → Int}
theorem CG.lo (h : CG b N u g w) : ∀ m, m < 1040 → sH b u g m = g m := fun m hm => sH_out (by have := h.1; omega)
theorem CG.lo2 {u2 : tW} {b2 : Nat} (h : CG b N u g w) (hb : 1100 ≤ b2) : ∀ m, m < 1040 → sH b2 u2 g m = g m := fun m hm => sH_out (by omega)
theorem cQ.ex {ci : Nat} {fs : List Value} (hC : CG b N u g w) (hf : ∀ m, m < 1040 → h0 m = g m) (hcd : cd ci ≠ 0) (hR : ∀ v' w', R v' w' → w' 3 0 = cd ci ∧ sw w w' ∧ w' 0 = w 0) : cQ h0 R cd (.inr N) (zup (sH b u g) N (.inr (ci, fs))) := by
  have n8 := hC.n8
  refine ⟨fun m hm => (zup_ne (by omega)).trans ((hC.lo m hm).trans (hf m hm).symm), Or.inr ⟨N, ci, fs, rfl, zup_at _ _ _, hcd, fun v' w' r => ?_⟩⟩
  obtain ⟨a1, a2, a3⟩ := hR v' w' r
  exact ⟨a1, hC.up a2 a3⟩
theorem cQ.ok {v : Int} (hC : CG b N u g w) (hf : ∀ m, m < 1040 → h0 m = g m) (hR : ∀ v' w', R v' w' → w' 3 0 = 0 ∧ v' = v ∧ sw w w' ∧ w' 0 = w 0) : cQ h0 R cd (.inl (some (.int (iI v)))) (sH b u g) := by
  refine ⟨fun m hm => (hC.lo m hm).trans (hf m hm).symm, Or.inl ⟨v, rfl, fun v' w' r => ?_⟩⟩
  obtain ⟨a1, a2, a3, a4⟩ := hR v' w' r
  exact ⟨a1, a2, hC.same a3 a4⟩
theorem pub.ex {t k v0 v : Int} {w0 w' : tW} (h : pub w t v0 w0 w' v) (e : t = k) (k0 : k ≠ 0) : w' 3 0 = k ∧ sw w w' ∧ w' 0 = w 0 := by
  rw [h.2 (by rw [e]; exact k0), e]
  exact ⟨set3_3, sw.set, set3_0⟩
theorem pub.ok {t v0 v : Int} {w' : tW} (h : pub w t v0 (tset w 3 0 0) w' v) (e : t = 0) : w' 3 0 = 0 ∧ v = v0 ∧ sw w w' ∧ w' 0 = w 0 := by
  obtain ⟨a1, a2⟩ := h.1 e
  rw [a2]
  exact ⟨set3_3, a1, sw.set, set3_0⟩
theorem pubQ.ex {t k v : Int} {P : Int → tW → Prop} {w' : tW} (h : pubQ w t P v w') (e : t = k) (k0 : k ≠ 0) : w' 3 0 = k ∧ sw w w' ∧ w' 0 = w 0 := by
  rw [h.2 (by rw [e]; exact k0), e]
  exact ⟨set3_3, sw.set, set3_0⟩
theorem sw.wt {rd st : Nat → Int} : sw w (wt (tset w 3 0 0) rd st) := fun f a b c => (wt_o (by omega) (by omega)).trans (sw.set f a b c)
theorem wt_0 {rd st : Nat → Int} : wt (tset w 3 0 0) rd st 0 = w 0 := (wt_o (by decide) (by decide)).trans set3_0
theorem wt_3 {rd st : Nat → Int} : wt (tset w 3 0 0) rd st 3 0 = 0 := by rw [wt_o (by decide) (by decide)]; exact set3_3
/-- what holds of the reference between calls -/
def RI (w : tW) : Prop := TA w ∧ (0 ≤ w 5 0 ∧ w 5 0 ≤ 80) ∧ (∀ i : Nat, i < 80 → 0 ≤ w 4 i ∧ w 4 i ≤ 65535) ∧ (-1 ≤ w 34 0 ∧ w 34 0 ≤ 1000) ∧ (0 ≤ w 7 0 ∧ w 7 0 ≤ 4) ∧ (w 9 0 = 0 ∨ w 9 0 = 1) ∧ (w 2 0 = 0 ∨ w 2 0 = 1)
theorem TI.ob0 {w : tW} (h : TI w) : ∀ m : Nat, m < 4 → w 13 m = oB 0 m := fun m hm => by rw [h.2.2.1 m hm]; unfold oB; simp
/-- the reference's times are the component's -/
theorem fT.o (hI : TI w) {rd st : Nat → Int} (h : fT w 500 rd st) : Tp (w 0) (oB 0) (-1) 0 rd st ∧ Tq (w 0) (oB 0) st := by
  obtain ⟨a1, a2, -⟩ := h
  rw [hI.2.2.2.1] at a1
  exact ⟨(a1.cg hI.1 hI.ob0).hu0, a2.cg hI.1 hI.ob0⟩
theorem Sch.tie {rd st rd' st' : Nat → Int} (hC : CG b N u g w) (hI : TI w) {u' : tW} (h : Sch (u 0) u' rd st) (k : fT w 500 rd' st') : ∀ k : Int, 0 ≤ k → k < u 0 1 → rd k.toNat = rd' k.toNat ∧ st k.toNat = st' k.toNat := by
  have e := hC.row
  obtain ⟨k1, k2⟩ := k.o hI
  rw [← e] at k1 k2
  exact h.2.1.same hC.A hC.O k1 k2 h.2.2.2.1
theorem gEnd_cg {s st st' : Nat → Int} : ∀ n : Nat, (∀ i : Nat, i < n → st i = st' i) → gEnd s st n = gEnd s st' n
  | 0, _ => rfl
  | n + 1, h => by
    unfold gEnd
    rw [gEnd_cg n (fun i hi => h i (by omega)), h n (by omega)]
theorem cntU_cg {st st' : Nat → Int} : ∀ n : Nat, (∀ i : Nat, i < n → st i = st' i) → cntU st n = cntU st' n
  | 0, _ => rfl
  | n + 1, h => by
    unfold cntU
    rw [cntU_cg n (fun i hi => h i (by omega)), h n (by omega)]
theorem mkS_cg {s st st' : Nat → Int} (h : ∀ i : Nat, i < (s 1).toNat → st i = st' i) : mkS s st = mkS s st' := by
  unfold mkS
  rw [cntU_cg _ h, gEnd_cg _ h]
theorem Sch.mk {rd st rd' st' : Nat → Int} (hC : CG b N u g w) (hI : TI w) {u' : tW} (h : Sch (u 0) u' rd st) (k : fT w 500 rd' st') : mkS (w 0) st' = gEnd (u 0) st (u 0 1).toNat := by
  have t := h.tie hC hI k
  have e := hC.row
  rw [← e, mkS_cg (st' := st) (fun i hi => by have := (t i (by omega) (by omega)).2; rw [Int.toNat_natCast] at this; exact this.symm)]
  unfold mkS
  rw [if_neg (by have := h.2.2.2.1; omega)]
theorem CG.xg (h : CG b N u g w) : ∃ (sv : Value) (T : Nat) (fl cl : Value), ∀ u', sH b u' g 1040 = some (oX b sv T fl cl (w 10 0)) := by
  have h1 := h.1
  obtain ⟨sv, T, fl, cl, a1, -⟩ := h.2.2.2.2.2.2.2.2.2.2
  exact ⟨sv, T, fl, cl, fun u' => (sH_out (by omega)).trans a1⟩
def cmQ (b : Nat) (u : tW) (g : zH) : zO → zH → Prop := fun z h' => ∃ u' rd st, z = .inl (some (.int (iI (gEnd (u 0) st (u 0 1).toNat)))) ∧ h' = sH b u' g ∧ SK u u' ∧ Sch (u 0) u' rd st
theorem x1_cmp (hC : CG b N u g w) : zMet yX1_compute (ws_ yX1_compute cX1_compute 2 (some .int)) 7 [.ref 1040] (sH b u g) (cmQ b u g) 0 0 := x1_compute hC
theorem cmX {X : zX} {Q : zO → zH → Prop} {k n pc : Nat} {env : List (Nat × Value)} : ∀ q h', cmQ b u g (.inr q) h' → zT X Q h' k n pc env q := fun q h' e => by obtain ⟨_, _, _, z, -⟩ := e; cases z
theorem cmK {X : zX} {Q : zO → zH → Prop} {k n pc : Nat} {env : List (Nat × Value)} {s9 : List Value} (kk : ∀ u' rd st, SK u u' → Sch (u 0) u' rd st → zW X Q (sH b u' g) k n pc env (.int (iI (gEnd (u 0) st (u 0 1).toNat)) :: s9)) : ∀ v h', cmQ b u g (.inl v) h' → zW X Q h' k n pc env (v.toList ++ s9) := fun v h' e => by
  obtain ⟨u', rd, st, z, rfl, sk, sc⟩ := e
  cases z
  exact kk u' rd st sk sc
end XO0
section XO1
variable {b N : Nat} {u w : tW} {g : zH}
theorem x1_tabuSteps (hC : CG b N u g w) (h10 : True) : zMet yX1_tabuSteps (ws_ yX1_tabuSteps cX1_tabuSteps 1 (some .int)) 8 [.ref 1040] (sH b u g) (cQ (sH b u g) (fun v w' => v = w 10 0 ∧ w' = tset w 3 0 0) (cdA 99 99 99)) 0 0 := by
  obtain ⟨sv, T, fl, cl, hx⟩ := hC.xg
  have hok := cQ.ok (v := w 10 0) (R := fun v w' => v = w 10 0 ∧ w' = tset w 3 0 0) (cd := cdA 99 99 99) hC hC.lo (fun v' w' r => ⟨by rw [r.2]; exact set3_3, r.1, by rw [r.2]; exact sw.set, by rw [r.2]; exact set3_0⟩)
  refine zMet.of (by decide) (Nat.le_of_ble_eq_true rfl) fun X K => ?_
  refine z_aload_n K dX1_tabuSteps_0 rfl rfl rfl ?_
  refine z_get K fd_X1_286_1 (hx _) rfl dX1_tabuSteps_1 ?_
  exact z_iret K (by omega) (by omega) (hok) dX1_tabuSteps_4
theorem x1_count {a : Int} (hC : CG b N u g w) (ha : i32 a) : zMet yX1_count (ws_ yX1_count cX1_count 2 (some .int)) 8 [.ref 1040, .int (iI a)] (sH b u g) (cQ (sH b u g) (fun v9 w' => pub w (tcCount a) (w 0 a.toNat) (tset w 3 0 0) w' v9) (cdA 22 99 99)) 1 6 := by
  obtain ⟨sv, T, fl, cl, hx⟩ := hC.xg
  have n8 := hC.n8
  have h05 := hC.A.1.1
  have h20 := hC.A.2.1.1
  have k1 := x1_inG (h := sH b u g) (x := a) (a := 0) (b := 1) ha (by omega) (by omega)
  have k2 := x1_check (h := sH b u g) (N := N) (v := bI (0 ≤ a ∧ a ≤ 1)) hC.am (b01r _) hC.fr n8.2.2.2
  have hok : 0 ≤ a ∧ a ≤ 1 → ∀ v, v = u 0 a.toNat → cQ (sH b u g) (fun v9 w' => pub w (tcCount a) (w 0 a.toNat) (tset w 3 0 0) w' v9) (cdA 22 99 99) (.inl (some (.int (iI v)))) (sH b u g) := fun ck v e => cQ.ok hC hC.lo (fun v' w' r => by rw [e, hC.row]; exact pub.ok r (if_pos ck))
  have hex : ¬ (0 ≤ a ∧ a ≤ 1) → cQ (sH b u g) (fun v9 w' => pub w (tcCount a) (w 0 a.toNat) (tset w 3 0 0) w' v9) (cdA 22 99 99) (.inr N) (zup (sH b u g) N (oEx 22 (sH b u g) N)) := fun ck => cQ.ex hC hC.lo (by decide) (fun v' w' r => pub.ex r (if_neg ck) (by decide))
  refine zMet.of (by decide) (Nat.le_of_ble_eq_true rfl) fun X K => ?_
  refine z_iload_n K dX1_count_0 rfl rfl ?_
  refine j_iconst K dX1_count_1 ?_
  refine j_iconst K dX1_count_2 ?_
  refine z_callS K (k1) cS_X1_3 rfl rfl (by omega) (by omega) (by omega) (Nat.le_of_ble_eq_true rfl) dX1_count_3 zrX (zrK ?_)
  refine z_callS K (k2) cS_X1_80 rfl rfl (by omega) (by omega) (by omega) (Nat.le_of_ble_eq_true rfl) dX1_count_6 (ckX fun ck_6 => z_out K rfl (by omega) (by omega) (hex (fun q => ck_6 (by rw [show bI (0 ≤ a ∧ a ≤ 1) = 1 from if_pos q]; decide)))) (ckK fun ck_6 => ?_)
  have ck := bI_n ck_6
  refine z_iload_n K dX1_count_9 rfl rfl ?_
  refine j_if_ne (tgt := 26) K dX1_count_10 rfl (by omega) (fun c_10 => ?_) (fun c_10 => ?_)
  · have ea : a.toNat = 1 := by omega
    refine z_aload_n K dX1_count_26 rfl rfl rfl ?_
    refine z_get K fd_X1_16_1 (hx _) rfl dX1_count_27 ?_
    refine z_get K fd_X1_59_2 (sH_shop) rfl dX1_count_30 ?_
    refine z_callV K (jl_size sH_ops) cV_X1_43_J2 (sH_ops) rfl rfl rfl (by omega) (by omega) (by omega) (Nat.le_of_ble_eq_true rfl) dX1_count_33 zrX (zrK ?_)
    exact z_iret K (by omega) (by omega) (hok ck _ (by rw [ea])) dX1_count_36
  · have ea : a.toNat = 0 := by omega
    refine z_aload_n K dX1_count_13 rfl rfl rfl ?_
    refine z_get K fd_X1_16_1 (hx _) rfl dX1_count_14 ?_
    refine z_get K fd_X1_39_2 (sH_shop) rfl dX1_count_17 ?_
    refine z_callV K (jl_size sH_jobs) cV_X1_43_J2 (sH_jobs) rfl rfl rfl (by omega) (by omega) (by omega) (Nat.le_of_ble_eq_true rfl) dX1_count_20 zrX (zrK ?_)
    refine z_goto (tgt := 36) K dX1_count_23 rfl ?_
    exact z_iret K (by omega) (by omega) (hok ck _ (by rw [ea])) dX1_count_36
theorem x1_order {m p : Int} (hC : CG b N u g w) (hm : i32 m) (hp : i32 p) : zMet yX1_order (ws_ yX1_order cX1_order 4 (some .int)) 8 [.ref 1040, .int (iI m), .int (iI p)] (sH b u g) (cQ (sH b u g) (fun v9 w' => pub w (tcOrder w m p) (w 0 (183 + 5 * m + p).toNat) (tset w 3 0 0) w' v9) (cdA 24 25 99)) 2 12 := by
  obtain ⟨sv, T, fl, cl, hx⟩ := hC.xg
  have n8 := hC.n8
  have k0 := x1_orderOf hC hm
  have hok : 0 ≤ m ∧ m ≤ 3 → 0 ≤ p ∧ p ≤ u 0 (179 + m).toNat - 1 → ∀ v, v = u 0 (183 + 5 * m + p).toNat → cQ (sH b u g) (fun v9 w' => pub w (tcOrder w m p) (w 0 (183 + 5 * m + p).toNat) (tset w 3 0 0) w' v9) (cdA 24 25 99) (.inl (some (.int (iI v)))) (sH b u g) := fun c1 c2 v e => cQ.ok hC hC.lo (fun v' w' r => by rw [e, hC.row]; exact pub.ok r ((if_neg (not_not_intro c1)).trans (if_neg (not_not_intro (by rw [← hC.row]; exact c2)))))
  have hex : ¬ (0 ≤ m ∧ m ≤ 3) → cQ (sH b u g) (fun v9 w' => pub w (tcOrder w m p) (w 0 (183 + 5 * m + p).toNat) (tset w 3 0 0) w' v9) (cdA 24 25 99) (.inr N) (zup (sH b u g) N (oEx 24 (sH b u g) N)) := fun ck => cQ.ex hC hC.lo (by decide) (fun v' w' r => pub.ex r (if_pos ck) (by decide))
  have hex2 : 0 ≤ m ∧ m ≤ 3 → ¬ (0 ≤ p ∧ p ≤ u 0 (179 + m).toNat - 1) → cQ (sH b u g) (fun v9 w' => pub w (tcOrder w m p) (w 0 (183 + 5 * m + p).toNat) (tset w 3 0 0) w' v9) (cdA 24 25 99) (.inr N) (zup (sH b u g) N (oEx 25 (sH b u g) N)) := fun c1 ck => cQ.ex hC hC.lo (by decide) (fun v' w' r => pub.ex r ((if_neg (not_not_intro c1)).trans (if_pos (by rw [← hC.row]; exact ck))) (by decide))
  have k2 := x1_checkElement (h := sH b u g) (N := N) (v := bI (0 ≤ p ∧ p ≤ u 0 (179 + m).toNat - 1)) hC.am (b01r _) hC.fr n8.2.2.2
  have hO := hC.O
  refine zMet.of (by decide) (Nat.le_of_ble_eq_true rfl) fun X K => ?_
  refine z_aload_n K dX1_order_0 rfl rfl rfl ?_
  refine z_iload_n K dX1_order_1 rfl rfl ?_
  refine z_callV K (k0) cV_X1_146_X1 (hx _) rfl rfl rfl (by omega) (by omega) (by omega) (Nat.le_of_ble_eq_true rfl) dX1_order_2 (ckX fun ck_2 => z_out K rfl (by omega) (by omega) (hex ck_2)) (rkK fun ck_2 => ?_)
  have hon := (hO m ck_2.1 ck_2.2).1
  unfold sOn at hon
  refine z_astore_n K dX1_order_5 rfl rfl (by decide) rfl ?_
  refine z_iload_n K dX1_order_6 rfl rfl ?_
  refine j_iconst K dX1_order_7 ?_
  refine z_aload_n K dX1_order_8 rfl rfl rfl ?_
  refine z_get K fd_X1_150_3 (sH_ord ⟨by omega, by omega⟩) rfl dX1_order_9 ?_
  refine j_iconst K dX1_order_12 ?_
  refine j_isub K dX1_order_13 ?_
  refine z_callS K (x1_inG (h := sH b u g) (x := p) (a := 0) (b := u 0 (179 + m).toNat - 1) hp (by omega) (by omega)) cS_X1_3 rfl rfl (by omega) (by omega) (by omega) (Nat.le_of_ble_eq_true rfl) dX1_order_14 zrX (zrK ?_)
  refine z_callS K (k2) cS_X1_152 rfl rfl (by omega) (by omega) (by omega) (Nat.le_of_ble_eq_true rfl) dX1_order_17 (ckX fun ck_17 => z_out K rfl (by omega) (by omega) (hex2 ck_2 (fun q => ck_17 (by rw [show bI (0 ≤ p ∧ p ≤ u 0 (179 + m).toNat - 1) = 1 from if_pos q]; decide)))) (ckK fun ck_17 => ?_)
  have ck := bI_n ck_17
  refine z_aload_n K dX1_order_20 rfl rfl rfl ?_
  refine z_get K fd_X1_155_3 (sH_ord ⟨by omega, by omega⟩) rfl dX1_order_21 ?_
  refine z_iload_n K dX1_order_24 rfl rfl ?_
  refine s_ldrow K (⟨by omega, by omega⟩) (by omega) (by omega) dX1_order_25 ?_
  exact z_iret K (by omega) (by omega) (hok ck_2 ck _ rfl) dX1_order_26
theorem x1_makespan (hC : CG b N u g w) (hI : TI w) : zMet yX1_makespan (ws_ yX1_makespan cX1_makespan 1 (some .int)) 8 [.ref 1040] (sH b u g) (cQ (sH b u g) (fun v w' => ∃ rd st, w' = wt (tset w 3 0 0) rd st ∧ fT w 500 rd st ∧ v = mkS (w 0) st) (cdA 99 99 99)) 0 0 := by
  obtain ⟨sv, T, fl, cl, hx⟩ := hC.xg
  have k1 := x1_cmp hC
  refine zMet.of (by decide) (Nat.le_of_ble_eq_true rfl) fun X K => ?_
  refine z_aload_n K dX1_makespan_0 rfl rfl rfl ?_
  refine z_callV K (k1) cV_X1_158_X1 (hx _) rfl rfl rfl (by omega) (by omega) (by omega) (Nat.le_of_ble_eq_true rfl) dX1_makespan_1 cmX (cmK fun u' rd st sk sc => ?_)
  exact z_iret K (by omega) (by omega) (cQ.ok (hC.sk sk) hC.lo (by rintro v' w' ⟨rd', st', rfl, hf, rfl⟩; exact ⟨wt_3, sc.mk hC hI hf, sw.wt, wt_0⟩)) dX1_makespan_4
theorem SK.e0 {u u' : tW} (k : SK u u') : u' 0 = u 0 := k.1 0 (by decide) (by decide) (by decide) (by decide) (by decide)
theorem sCo_cg {s st st' : Nat → Int} {j : Int} (hA : WfA s) (hj : 0 ≤ j ∧ j < s 0) (h : ∀ k : Int, 0 ≤ k → k < s 1 → st k.toNat = st' k.toNat) : sCo s st j = sCo s st' j := by
  unfold sCo
  by_cases c : sLen s j = 0
  · rw [if_pos c, if_pos c]
  · have hl := (hA.1.2 j hj.1 hj.2).2.2.2
    have z := (hA.2.2.1 j (sLen s j - 1) hj.1 hj.2 (by omega) (by omega)).1
    rw [if_neg c, if_neg c, h _ z.1 z.2]
theorem x1_completion {j : Int} (hC : CG b N u g w) (hI : TI w) (hj : i32 j) : zMet yX1_completion (ws_ yX1_completion cX1_completion 2 (some .int)) 8 [.ref 1040, .int (iI j)] (sH b u g) (cQ (sH b u g) (pubQ w (tcCompl w j) (fun v w' => ∃ rd st, w' = wt (tset w 3 0 0) rd st ∧ fT w 500 rd st ∧ v = sCo (w 0) st j)) (cdA 24 99 99)) 1 6 := by
  obtain ⟨sv, T, fl, cl, hx⟩ := hC.xg
  have n8 := hC.n8
  have k0 := x1_jobAt hC hj
  have k1 := x1_cmp hC
  have hex : ¬ (0 ≤ j ∧ j ≤ u 0 0 - 1) → cQ (sH b u g) (pubQ w (tcCompl w j) (fun v w' => ∃ rd st, w' = wt (tset w 3 0 0) rd st ∧ fT w 500 rd st ∧ v = sCo (w 0) st j)) (cdA 24 99 99) (.inr N) (zup (sH b u g) N (oEx 24 (sH b u g) N)) := fun ck => cQ.ex hC hC.lo (by decide) (fun v' w' r => pubQ.ex r (if_neg (by rw [← hC.row]; exact ck)) (by decide))
  refine zMet.of (by decide) (Nat.le_of_ble_eq_true rfl) fun X K => ?_
  refine z_aload_n K dX1_completion_0 rfl rfl rfl ?_
  refine z_iload_n K dX1_completion_1 rfl rfl ?_
  refine z_callV K (k0) cV_X1_101_X1 (hx _) rfl rfl rfl (by omega) (by omega) (by omega) (Nat.le_of_ble_eq_true rfl) dX1_completion_2 (ckX fun ck_2 => z_out K rfl (by omega) (by omega) (hex ck_2)) (rkK fun ck_2 => ?_)
  refine z_pop K dX1_completion_5 rfl ?_
  refine z_aload_n K dX1_completion_6 rfl rfl rfl ?_
  refine z_callV K (k1) cV_X1_158_X1 (hx _) rfl rfl rfl (by omega) (by omega) (by omega) (Nat.le_of_ble_eq_true rfl) dX1_completion_7 cmX (cmK fun u' rd st sk sc => ?_)
  have e0 := sk.e0
  refine z_pop K dX1_completion_10 rfl ?_
  refine z_aload_n K dX1_completion_11 rfl rfl rfl ?_
  refine z_get K fd_X1_16_1 (hx _) rfl dX1_completion_12 ?_
  refine z_iload_n K dX1_completion_15 rfl rfl ?_
  refine z_callV K (x2_completion (by rw [e0]; exact hC.A) sc.1 ⟨ck_2.1, by rw [e0]; omega⟩) cV_X1_174_X2 (sH_shop) rfl rfl rfl (by omega) (by omega) (by omega) (Nat.le_of_ble_eq_true rfl) dX1_completion_16 zrX (zrK ?_)
  rw [e0]
  exact z_iret K (by omega) (by omega) (cQ.ok (hC.sk sk) hC.lo (by intro v' w' r; obtain ⟨rd', st', rfl, hf, rfl⟩ := r.1 (if_pos (by rw [← hC.row]; exact ck_2)); exact ⟨wt_3, by rw [← hC.row]; exact (sCo_cg hC.A ⟨ck_2.1, by omega⟩ (fun k a b => (sc.tie hC hI hf k a b).2)).symm, sw.wt, wt_0⟩)) dX1_completion_19
theorem x1_time {k a : Int} (hC : CG b N u g w) (hI : TI w) (hk : i32 k) (ha : i32 a) : zMet yX1_time (ws_ yX1_time cX1_time 3 (some .int)) 8 [.ref 1040, .int (iI k), .int (iI a)] (sH b u g) (cQ (sH b u g) (pubQ w (tcTime w k a) (fun v w' => ∃ rd st, w' = wt (tset w 3 0 0) rd st ∧ fT w 500 rd st ∧ v = if a = 0 then rd k.toNat else if a = 1 then st k.toNat else st k.toNat + w 0 (82 + k).toNat)) (cdA 24 22 99)) 2 12 := by
  obtain ⟨sv, T, fl, cl, hx⟩ := hC.xg
  have n8 := hC.n8
  have h20 := hC.A.2.1.1
  have k0 := x1_operationAt hC hk
  have k1 := x1_cmp hC
  have k2 := x1_inG (h := sH b u g) (x := a) (a := 0) (b := 2) ha (by omega) (by omega)
  have k3 := x1_check (h := sH b u g) (N := N) (v := bI (0 ≤ a ∧ a ≤ 2)) hC.am (b01r _) hC.fr n8.2.2.2
  generalize hR : (pubQ w (tcTime w k a) (fun v w' => ∃ rd st, w' = wt (tset w 3 0 0) rd st ∧ fT w 500 rd st ∧ v = if a = 0 then rd k.toNat else if a = 1 then st k.toNat else st k.toNat + w 0 (82 + k).toNat)) = R
  have hex : ¬ (0 ≤ k ∧ k ≤ u 0 1 - 1) → cQ (sH b u g) R (cdA 24 22 99) (.inr N) (zup (sH b u g) N (oEx 24 (sH b u g) N)) := fun ck => cQ.ex hC hC.lo (by decide) (fun v' w' r => by rw [← hR] at r; exact pubQ.ex r (if_pos (by rw [← hC.row]; exact ck)) (by decide))
  have hex2 : (0 ≤ k ∧ k ≤ u 0 1 - 1) → ¬ (0 ≤ a ∧ a ≤ 2) → cQ (sH b u g) R (cdA 24 22 99) (.inr N) (zup (sH b u g) N (oEx 22 (sH b u g) N)) := fun c1 ck => cQ.ex hC hC.lo (by decide) (fun v' w' r => by rw [← hR] at r; exact pubQ.ex r ((if_neg (not_not_intro (by rw [← hC.row]; exact c1))).trans (if_pos ck)) (by decide))
  have hok : ∀ u' rd st, SK u u' → Sch (u 0) u' rd st → (0 ≤ k ∧ k ≤ u 0 1 - 1) → (0 ≤ a ∧ a ≤ 2) → ∀ v, v = (if a = 0 then rd k.toNat else if a = 1 then st k.toNat else st k.toNat + u 0 (82 + k).toNat) → cQ (sH b u g) R (cdA 24 22 99) (.inl (some (.int (iI v)))) (sH b u' g) := fun u' rd st sk sc c1 c2 v e => cQ.ok (hC.sk sk) hC.lo (by
    intro v' w' r
    rw [← hR] at r
    obtain ⟨rd', st', rfl, hf, rfl⟩ := r.1 ((if_neg (not_not_intro (by rw [← hC.row]; exact c1))).trans (if_neg (not_not_intro c2)))
    obtain ⟨t1, t2⟩ := sc.tie hC hI hf k c1.1 (by omega)
    exact ⟨wt_3, by rw [e, t1, t2, hC.row], sw.wt, wt_0⟩)
  refine zMet.of (by decide) (Nat.le_of_ble_eq_true rfl) fun X K => ?_
  refine z_aload_n K dX1_time_0 rfl rfl rfl ?_
  refine z_iload_n K dX1_time_1 rfl rfl ?_
  refine z_callV K (k0) cV_X1_109_X1 (hx _) rfl rfl rfl (by omega) (by omega) (by omega) (Nat.le_of_ble_eq_true rfl) dX1_time_2 (ckX fun ck_2 => z_out K rfl (by omega) (by omega) (hex ck_2)) (rkK fun ck_2 => ?_)
  refine z_pop K dX1_time_5 rfl ?_
  refine z_iload_n K dX1_time_6 rfl rfl ?_
  refine j_iconst K dX1_time_7 ?_
  refine j_iconst K dX1_time_8 ?_
  refine z_callS K (k2) cS_X1_3 rfl rfl (by omega) (by omega) (by omega) (Nat.le_of_ble_eq_true rfl) dX1_time_9 zrX (zrK ?_)
  refine z_callS K (k3) cS_X1_80 rfl rfl (by omega) (by omega) (by omega) (Nat.le_of_ble_eq_true rfl) dX1_time_12 (ckX fun ck_12 => z_out K rfl (by omega) (by omega) (hex2 ck_2 (fun q => ck_12 (by rw [show bI (0 ≤ a ∧ a ≤ 2) = 1 from if_pos q]; decide)))) (ckK fun ck_12 => ?_)
  have ck := bI_n ck_12
  refine z_aload_n K dX1_time_15 rfl rfl rfl ?_
  refine z_callV K (k1) cV_X1_158_X1 (hx _) rfl rfl rfl (by omega) (by omega) (by omega) (Nat.le_of_ble_eq_true rfl) dX1_time_16 cmX (cmK fun u' rd st sk sc => ?_)
  obtain ⟨f1, f2, f3, f4, -⟩ := sc.1 k ck_2.1 (by rw [sk.e0]; omega)
  rw [sk.e0] at f4
  refine z_pop K dX1_time_19 rfl ?_
  refine z_iload_n K dX1_time_20 rfl rfl ?_
  refine j_if_ne (tgt := 36) K dX1_time_21 rfl (by omega) (fun c_21 => ?_) (fun c_21 => ?_)
  · refine z_iload_n K dX1_time_36 rfl rfl ?_
    refine j_iconst K dX1_time_37 ?_
    refine j_icmp_ne (tgt := 53) K dX1_time_38 rfl (by omega) (by omega) (fun c_38 => ?_) (fun c_38 => ?_)
    · have e : u' 4 k.toNat = (if a = 0 then rd k.toNat else if a = 1 then st k.toNat else st k.toNat + u 0 (82 + k).toNat) := by rw [if_neg (by omega), if_neg (by omega)]; exact f4
      refine z_aload_n K dX1_time_53 rfl rfl rfl ?_
      refine z_get K fd_X1_16_1 (hx _) rfl dX1_time_54 ?_
      refine z_get K fd_X1_167_2 (sH_shop) rfl dX1_time_57 ?_
      refine z_iload_n K dX1_time_60 rfl rfl ?_
      refine j_ild K (sH_31) (by omega) (by omega) dX1_time_61 ?_
      exact z_iret K (by omega) (by omega) (hok u' rd st sk sc ck_2 ck _ e) dX1_time_62
    · have e : u' 3 k.toNat = (if a = 0 then rd k.toNat else if a = 1 then st k.toNat else st k.toNat + u 0 (82 + k).toNat) := by rw [if_neg (by omega), if_pos (by omega)]; exact f3
      refine z_aload_n K dX1_time_41 rfl rfl rfl ?_
      refine z_get K fd_X1_16_1 (hx _) rfl dX1_time_42 ?_
      refine z_get K fd_X1_164_2 (sH_shop) rfl dX1_time_45 ?_
      refine z_iload_n K dX1_time_48 rfl rfl ?_
      refine j_ild K (sH_30) (by omega) (by omega) dX1_time_49 ?_
      refine z_goto (tgt := 62) K dX1_time_50 rfl ?_
      exact z_iret K (by omega) (by omega) (hok u' rd st sk sc ck_2 ck _ e) dX1_time_62
  · have e : u' 2 k.toNat = (if a = 0 then rd k.toNat else if a = 1 then st k.toNat else st k.toNat + u 0 (82 + k).toNat) := by rw [if_pos (by omega)]; exact f2
    refine z_aload_n K dX1_time_24 rfl rfl rfl ?_
    refine z_get K fd_X1_16_1 (hx _) rfl dX1_time_25 ?_
    refine z_get K fd_X1_161_2 (sH_shop) rfl dX1_time_28 ?_
    refine z_iload_n K dX1_time_31 rfl rfl ?_
    refine j_ild K (sH_29) (by omega) (by omega) dX1_time_32 ?_
    refine z_goto (tgt := 62) K dX1_time_33 rfl ?_
    exact z_iret K (by omega) (by omega) (hok u' rd st sk sc ck_2 ck _ e) dX1_time_62
end XO1

