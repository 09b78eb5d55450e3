/-! ===== the component's operations: swap, move ===== -/
section XP2
variable {b N O M : Nat} {u u' w w' : tW} {g g' : zH} {s : Nat → Int}
theorem cyH_sH {x n : Int} (hb : 1000 ≤ b) (hN : b + 72 ≤ N) : cyH (sH b u g) N (N + 1) (N + 2) x n = sH b u (cyH g N (N + 1) (N + 2) x n) := by
  have e : ∀ c fs, thL (sH b u g) c fs = thL g c fs := fun c fs => thL_ext (fun m hm => sH_out (by omega))
  unfold cyH f7 f8
  rw [e, e, e, sH_upo (by omega), sH_upo (by omega), sH_upo (by omega)]
theorem cyH_lo {x n : Int} : zExt N g (cyH g N (N + 1) (N + 2) x n) := fun m hm => (zup_ne (by omega)).trans ((zup_ne (by omega)).trans (zup_ne (by omega)))
theorem cyH_top {x n : Int} (h : zTop g N) : zTop (cyH g N (N + 1) (N + 2) x n) (N + 3) := fun m hm => (zup_ne (by omega)).trans ((zup_ne (by omega)).trans ((zup_ne (by omega)).trans (h m (by omega))))
/-- what a schedule by orders ends with -/
def seQ (b N : Nat) (u : tW) (rd st : Nat → Int) (u' : tW) : Prop := SK u u' ∧ SR (u 0) (oB 0) (-1) (u 5 3) rd st u' ∧ Tp (u 0) (oB 0) (-1) 0 rd st ∧ Tq (u 0) (oB 0) st ∧ ∀ i : Nat, (i : Int) < u 0 1 → -1 ≤ st i ∧ st i ≤ 1300
theorem x1_settle (hx : ∃ (sv : Value) (T : Nat) (fl cl : Value) (t : Int), g 1040 = some (oX b sv T fl cl t)) (hb : 1100 ≤ b) (hN : b + 72 ≤ N) (hM : M ≤ 3) (hAm : Am g) (hT : zTop g N) (hA : WfA (u 0)) (hO : WfO (u 0)) (hB : BkOk b u g) (h52 : u 5 2 = -1) (h53 : 0 ≤ u 5 3 ∧ u 5 3 ≤ 3000) (hO1 : g O = some (oO (O + 1) (s (179 + M)))) (hO2 : g (O + 1) = some (aI 5 fun q => s (183 + 5 * M + q))) (hOb : b + 72 ≤ O) (hs : sPut (u 0) M 5 (fun q => s (183 + 5 * M + q)) = s) :
    zMet yX1_settle (wsW_ yX1_settle cX1_settle 4 none [(0, 7, 10, 218)]) 8 [.ref 1040, .ref (b + 20 + M), .ref O] (sH b u g) (fun z h' => ∃ u' rd st, seQ b N u rd st u' ∧ ((cntU st (u 0 1).toNat = 0 ∧ z = .inl none ∧ h' = sH b u' g) ∨ (cntU st (u 0 1).toNat ≠ 0 ∧ z = .inr N ∧ ∃ x, isFst st (u 0 1).toNat x ∧ h' = sH b (wRow u' s) (cyH g N (N + 1) (N + 2) x (cntU st (u 0 1).toNat))))) 3 21 := by
  obtain ⟨sv, T, fl, cl, t, hx⟩ := hx
  have hx1 : ∀ u', sH b u' g 1040 = some (oX b sv T fl cl t) := fun u' => (sH_out (by omega)).trans hx
  have hOT := hT.lt hO1
  have hOT1 := hT.lt hO2
  have ks := x2_schedule (b := b) (u := u) (g := g) (bb := 500) (N := N) (by omega) hN (by omega) (Or.inl h52) hA hO hB (by omega) h53 hAm hT
  rw [h52] at ks
  refine zMet.ofH (by decide) (Nat.le_of_ble_eq_true rfl) fun X K => ?_
  generalize hQ : (fun (z : zO) (h' : zH) => ∃ u' rd st, seQ b N u rd st u' ∧ ((cntU st (u 0 1).toNat = 0 ∧ z = .inl none ∧ h' = sH b u' g) ∨ (cntU st (u 0 1).toNat ≠ 0 ∧ z = .inr N ∧ ∃ x, isFst st (u 0 1).toNat x ∧ h' = sH b (wRow u' s) (cyH g N (N + 1) (N + 2) x (cntU st (u 0 1).toNat))))) = Q
  have fin1 : ∀ u' rd st, seQ b N u rd st u' → cntU st (u 0 1).toNat = 0 → Q (.inl none) (sH b u' g) := fun u' rd st h1 h2 => by rw [← hQ]; exact ⟨u', rd, st, h1, Or.inl ⟨h2, rfl, rfl⟩⟩
  have fin2 : ∀ u' rd st x, seQ b N u rd st u' → cntU st (u 0 1).toNat ≠ 0 → isFst st (u 0 1).toNat x → Q (.inr N) (sH b (wRow u' s) (cyH g N (N + 1) (N + 2) x (cntU st (u 0 1).toNat))) := fun u' rd st x h1 h2 h3 => by rw [← hQ]; exact ⟨u', rd, st, h1, Or.inr ⟨h2, rfl, x, h3, rfl⟩⟩
  clear hQ
  have bad : ∀ u' rd st x, seQ b N u rd st u' → cntU st (u 0 1).toNat ≠ 0 → isFst st (u 0 1).toNat x → ∀ env, zsub env [(1, .ref (b + 20 + M)), (2, .ref O)] → zW X Q (sH b u' (cyH g N (N + 1) (N + 2) x (cntU st (u 0 1).toNat))) 3 21 10 env [.ref N] := by
    intro u' rd st x h1 h2 h3 env he
    refine zW.cut he ?_
    have f2 := fin2 u' rd st x h1 h2 h3
    have e0 : u' 0 = u 0 := h1.1.e0
    generalize hG : cyH g N (N + 1) (N + 2) x (cntU st (u 0 1).toNat) = G at *
    have gq : ∀ m, m < N → G m = g m := fun m hm => by rw [← hG]; exact cyH_lo m hm
    have gN : G N = some (f8 8 g (.ref (N + 1)) 1) := by rw [← hG]; exact zup_at _ _ _
    have l1 := sH_oN (b := b) (u := u') (g := G) hM
    have l2 := sH_rN (b := b) (u := u') (g := G) hM
    have l3 : sH b u' G O = some (oO (O + 1) (s (179 + M))) := (sH_out (by omega)).trans ((gq O (by omega)).trans hO1)
    have l4 : sH b u' G (O + 1) = some (aI 5 fun q => s (183 + 5 * M + q)) := (sH_out (by omega)).trans ((gq (O + 1) (by omega)).trans hO2)
    have kt := x3_take l1 l2 l3 l4 (by omega) (by omega)
    rw [sH_rowF hM (by rw [e0]; exact hA.1), e0, hs, sH_oszN (by rw [wRow_0]) hM] at kt
    have lN : sH b (wRow u' s) G N = some (f8 8 g (.ref (N + 1)) 1) := (sH_out (by omega)).trans gN
    refine z_astore_n K dX1_settle_10 rfl rfl (by decide) rfl ?_
    refine z_aload_n K dX1_settle_11 rfl rfl rfl ?_
    refine z_aload_n K dX1_settle_12 rfl rfl rfl ?_
    refine z_callV K (kt) cV_X1_220_X3 (l1) rfl rfl rfl (by omega) (by omega) (by omega) (Nat.le_of_ble_eq_true rfl) dX1_settle_13 zvX (zvK ?_)
    refine z_aload_n K dX1_settle_16 rfl rfl rfl ?_
    refine z_athrow K lN rfl dX1_settle_17 ?_
    exact z_out K rfl (by omega) (by omega) f2
  refine z_aload_n K dX1_settle_0 rfl rfl rfl ?_
  refine z_get K fd_X1_16_1 (hx1 _) rfl dX1_settle_1 ?_
  refine z_callV K ks cV_X1_215_X2 sH_shop rfl rfl rfl (by omega) (by omega) (by omega) (Nat.le_of_ble_eq_true rfl) dX1_settle_4 (fun q h1 hq => ?_) (fun v h1 hq => ?_)
  · obtain ⟨u', rd, st, a1, a2, a3, a4, a5, a6⟩ := hq
    obtain ⟨a7, z, x, a8, rfl⟩ := a6.resolve_left (fun z => by have := z.2.1; cases this)
    cases z
    rw [cyH_sH (by omega) hN]
    refine z_catch1 K ((sH_out (by omega)).trans (zup_at _ _ _)) rfl (by omega) (by decide) q1049 q1060 ?_
    exact zW.widen (by omega) (by omega) (bad u' rd st x ⟨a1, a2, a3.hu0, a4, fun i hi => by have := a5 i hi; omega⟩ a7 a8 _ ⟨rfl, rfl, trivial⟩)
  obtain ⟨u', rd, st, a1, a2, a3, a4, a5, a6⟩ := hq
  obtain ⟨a7, z, rfl⟩ := a6.resolve_right (fun z => by have := z.2.1; cases this)
  cases z
  refine z_goto (tgt := 18) K dX1_settle_7 rfl ?_
  exact z_vret K (by omega) (by omega) (fin1 u' rd st ⟨a1, a2, a3.hu0, a4, fun i hi => by have := a5 i hi; omega⟩ a7) dX1_settle_18
theorem x1_settled {sv fl cl : Value} {T : Nat} {t : Int} (hx : g 1040 = some (oX b sv T fl cl t)) (hb : 1100 ≤ b) (hN : b + 72 ≤ N) (hM : M ≤ 3) (hAm : Am g) (hT : zTop g N) (hA : WfA (u 0)) (hO : WfO (u 0)) (hB : BkOk b u g) (h52 : u 5 2 = -1) (h53 : 0 ≤ u 5 3 ∧ u 5 3 ≤ 3000) (hO1 : g O = some (oO (O + 1) (s (179 + M)))) (hO2 : g (O + 1) = some (aI 5 fun q => s (183 + 5 * M + q))) (hOb : b + 72 ≤ O) (hs : sPut (u 0) M 5 (fun q => s (183 + 5 * M + q)) = s) :
    zMet yX1_settled (wsW_ yX1_settled cX1_settled 4 (some .int) [(0, 6, 9, 218)]) 9 [.ref 1040, .ref (b + 20 + M), .ref O] (sH b u g) (fun z h' => ∃ u' rd st, seQ b N u rd st u' ∧ ((cntU st (u 0 1).toNat = 0 ∧ z = .inl (some (.int (iI (gEnd (u 0) st (u 0 1).toNat)))) ∧ h' = sH b u' g) ∨ (cntU st (u 0 1).toNat ≠ 0 ∧ z = .inr (N + 3) ∧ ∃ x fs, isFst st (u 0 1).toNat x ∧ h' = zup (sH b (wRow u' s) (zup (cyH g N (N + 1) (N + 2) x (cntU st (u 0 1).toNat)) 1040 (oX b sv T (.ref N) cl t))) (N + 3) (.inr (23, fs))))) 4 27 := by
  have hx1 : ∀ u', sH b u' g 1040 = some (oX b sv T fl cl t) := fun u' => (sH_out (by omega)).trans hx
  have ks := x1_settle (O := O) ⟨sv, T, fl, cl, t, hx⟩ hb hN hM hAm hT hA hO hB h52 h53 hO1 hO2 hOb hs
  refine zMet.ofH (by decide) (Nat.le_of_ble_eq_true rfl) fun X K => ?_
  generalize hQ : (fun (z : zO) (h' : zH) => ∃ u' rd st, seQ b N u rd st u' ∧ ((cntU st (u 0 1).toNat = 0 ∧ z = .inl (some (.int (iI (gEnd (u 0) st (u 0 1).toNat)))) ∧ h' = sH b u' g) ∨ (cntU st (u 0 1).toNat ≠ 0 ∧ z = .inr (N + 3) ∧ ∃ x fs, isFst st (u 0 1).toNat x ∧ h' = zup (sH b (wRow u' s) (zup (cyH g N (N + 1) (N + 2) x (cntU st (u 0 1).toNat)) 1040 (oX b sv T (.ref N) cl t))) (N + 3) (.inr (23, fs))))) = Q
  have fin1 : ∀ u' rd st, seQ b N u rd st u' → cntU st (u 0 1).toNat = 0 → Q (.inl (some (.int (iI (gEnd (u 0) st (u 0 1).toNat))))) (sH b u' g) := fun u' rd st h1 h2 => by rw [← hQ]; exact ⟨u', rd, st, h1, Or.inl ⟨h2, rfl, rfl⟩⟩
  have fin2 : ∀ u' rd st x fs, seQ b N u rd st u' → cntU st (u 0 1).toNat ≠ 0 → isFst st (u 0 1).toNat x → Q (.inr (N + 3)) (zup (sH b (wRow u' s) (zup (cyH g N (N + 1) (N + 2) x (cntU st (u 0 1).toNat)) 1040 (oX b sv T (.ref N) cl t))) (N + 3) (.inr (23, fs))) := fun u' rd st x fs h1 h2 h3 => by rw [← hQ]; exact ⟨u', rd, st, h1, Or.inr ⟨h2, rfl, x, fs, h3, rfl⟩⟩
  clear hQ
  have bad : ∀ u' rd st x, seQ b N u rd st u' → cntU st (u 0 1).toNat ≠ 0 → isFst st (u 0 1).toNat x → ∀ env, zsub env [(0, .ref 1040)] → zW X Q (sH b (wRow u' s) (cyH g N (N + 1) (N + 2) x (cntU st (u 0 1).toNat))) 3 21 9 env [.ref N] := by
    intro u' rd st x h1 h2 h3 env he
    refine zW.cut he ?_
    have f2 := fun fs => fin2 u' rd st x fs h1 h2 h3
    have gT : zTop (cyH g N (N + 1) (N + 2) x (cntU st (u 0 1).toNat)) (N + 3) := cyH_top hT
    have gq : ∀ m, m < N → cyH g N (N + 1) (N + 2) x (cntU st (u 0 1).toNat) m = g m := cyH_lo
    generalize cyH g N (N + 1) (N + 2) x (cntU st (u 0 1).toNat) = G at *
    have lx : sH b (wRow u' s) G 1040 = some (oX b sv T fl cl t) := (sH_out (by omega)).trans ((gq 1040 (by omega)).trans hx)
    have hAm2 : Am (sH b (wRow u' s) (zup G 1040 (oX b sv T (.ref N) cl t))) := ((hAm.ext gq (by omega)).up40).sh (by omega)
    have fr : sH b (wRow u' s) (zup G 1040 (oX b sv T (.ref N) cl t)) (N + 3) = none := (sH_out (by omega)).trans ((zup_ne (by omega)).trans (gT _ (Nat.le_refl _)))
    have k1 := j14_init (h := zup (sH b (wRow u' s) (zup G 1040 (oX b sv T (.ref N) cl t))) (N + 3) (.inr (23, [.null, .null, .null, .null, .null, .int 0]))) (q := N + 3) (hAm2.up (by omega)) (zup_at _ _ _) (by omega)
    rw [zup_zup] at k1
    refine z_astore_n K dX1_settled_9 rfl rfl (by decide) rfl ?_
    refine z_aload_n K dX1_settled_10 rfl rfl rfl ?_
    refine z_aload_n K dX1_settled_11 rfl rfl rfl ?_
    refine z_putE K fd_X1_228_1 ⟨_, rfl, Or.inl rfl⟩ (lx) (by omega) (Nat.le_of_ble_eq_true rfl) (zf_r) dX1_settled_12 (sH_upo (by omega)) ?_
    refine z_new K (N + 3) nw_X1_36 fr (by omega) (by omega) (by omega) dX1_settled_15 ?_
    refine z_dup K dX1_settled_18 rfl ?_
    refine z_cI (fs := []) K (k1) cI_X1_38 rfl rfl (by omega) (by omega) (by omega) (Nat.le_of_ble_eq_true rfl) dX1_settled_19 zvX (zvK ?_)
    refine z_athrow K (zup_at _ _ _) rfl dX1_settled_22 ?_
    exact z_out K rfl (by omega) (by omega) (f2 _)
  refine z_aload_n K dX1_settled_0 rfl rfl rfl ?_
  refine z_aload_n K dX1_settled_1 rfl rfl rfl ?_
  refine z_aload_n K dX1_settled_2 rfl rfl rfl ?_
  refine z_cVW K ks cV_X1_224_X1 (hx1 _) rfl rfl rfl (by omega) (by omega) (by omega) (Nat.le_of_ble_eq_true rfl) dX1_settled_3 (fun q h1 hq => ?_) (fun v h1 hq => ?_)
  · obtain ⟨u', rd, st, a1, a2⟩ := hq
    obtain ⟨a7, z, x, a8, rfl⟩ := a2.resolve_left (fun z => by have := z.2.1; cases this)
    cases z
    refine z_catch1 K ((sH_out (by omega)).trans (zup_at _ _ _)) rfl (by omega) (by decide) q1049 q1060 ?_
    exact zW.widen (by omega) (by omega) (bad u' rd st x a1 a7 a8 _ ⟨rfl, trivial⟩)
  obtain ⟨u', rd, st, a1, a2⟩ := hq
  obtain ⟨a7, z, rfl⟩ := a2.resolve_right (fun z => by have := z.2.1; cases this)
  cases z
  have mk : u' 5 0 = gEnd (u 0) st (u 0 1).toNat := by rw [← gMx_all _ a7]; exact a1.2.1.2.2.2.2.1
  refine z_goto (tgt := 23) K dX1_settled_6 rfl ?_
  refine z_aload_n K dX1_settled_23 rfl rfl rfl ?_
  refine z_get K fd_X1_16_1 (hx1 _) rfl dX1_settled_24 ?_
  refine z_get K fd_X1_73_2 (sH_shop) rfl dX1_settled_27 ?_
  rw [mk]
  exact z_iret K (by omega) (by omega) (fin1 u' rd st a1 a7) dX1_settled_30
end XP2

