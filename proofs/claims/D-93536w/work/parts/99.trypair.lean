/-! ===== the component: a swap is tried ===== -/
theorem sPut_ex {s : Nat → Int} {m p : Nat} (hp : p + 1 < 5) : sPut s m 5 (exF (fun q => s (183 + 5 * m + q)) p) = sXc s m p := by
  funext i
  unfold sPut sXc exF
  rw [show (183 + 5 * (m : Int) + p).toNat = 183 + 5 * m + p by omega, show (183 + 5 * (m : Int) + (p + 1)).toNat = 183 + 5 * m + (p + 1) by omega]
  by_cases e : 183 + 5 * m ≤ i ∧ i < 183 + 5 * m + 5
  · rw [if_pos e]
    by_cases e1 : i = 183 + 5 * m + (p + 1)
    · subst e1
      rw [show 183 + 5 * m + (p + 1) - (183 + 5 * m) = p + 1 by omega, sup_s, sup_s]
    · rw [sup_n (show i - (183 + 5 * m) ≠ p + 1 by omega), sup_n e1]
      by_cases e2 : i = 183 + 5 * m + p
      · subst e2
        rw [show 183 + 5 * m + p - (183 + 5 * m) = p by omega, sup_s, sup_s]
      · rw [sup_n (show i - (183 + 5 * m) ≠ p by omega), sup_n e2]
        exact congrArg s (by omega)
  · rw [if_neg e, sup_n (by omega), sup_n (by omega)]
/-- what a try leaves of the search's numbers: v the makespan after the swap (below 0: a cycle), fb whether it is forbidden -/
noncomputable def tryX (x : Nat → Int) (m p v fb : Int) : Nat → Int := @ite _ (0 ≤ v ∧ (fb = 0 ∨ v < x 1) ∧ (x 3 = -1 ∨ isB x v m p)) (Classical.propDecidable _) (sup (sup (sup x 3 m) 4 p) 5 v) x
theorem tryX_y {x : Nat → Int} {m p v fb : Int} (h : 0 ≤ v ∧ (fb = 0 ∨ v < x 1) ∧ (x 3 = -1 ∨ isB x v m p)) : tryX x m p v fb = sup (sup (sup x 3 m) 4 p) 5 v := @if_pos _ (Classical.propDecidable _) h _ _ _
theorem tryX_n {x : Nat → Int} {m p v fb : Int} (h : ¬ (0 ≤ v ∧ (fb = 0 ∨ v < x 1) ∧ (x 3 = -1 ∨ isB x v m p))) : tryX x m p v fb = x := @if_neg _ (Classical.propDecidable _) h _ _ _
section XTp
variable {S b L B a9 N9 n9 : Nat} {u : tW} {g : zH} {x : Nat → Int} {c9 : Int} {M : Nat → Nat} {F G T : Nat → Int}
theorem x11_tryPair {m p n : Nat} {a c : Int} (hb : 1000 ≤ b) (hS : b + 72 ≤ S) (hG : g S = some (.inr (10, seF b L B x))) (hLS : S < L) (hL : g L = some (oL c9 a9 n9)) (hno9 : n9 ≠ 0 → b + 72 ≤ a9) (ha9 : n9 ≠ 0 → g a9 = some (aR N9 n9 M)) (hnN : n9 ≤ N9) (hN9 : N9 ≤ 1000) (hMo : ∀ i, i < n9 → b + 72 ≤ M i) (hM : ∀ i, i < n9 → g (M i) = some (.inr (11, [.int (iI (F i)), .int (iI (G i)), .int (iI (T i))]))) (hrM : ∀ i, i < n9 → (-1000 ≤ F i ∧ F i ≤ 1000) ∧ (-1000 ≤ G i ∧ G i ≤ 1000) ∧ -1000 ≤ T i ∧ T i ≤ 1000) (hx0 : -1000 ≤ x 0 ∧ x 0 ≤ 1000) (hx2 : -1000 ≤ x 2 ∧ x 2 ≤ 1000) (hxr : ∀ i, i < 6 → -2147483648 ≤ x i ∧ x i ≤ 2147483647)
    (hA : WfA (u 0)) (hO : WfO (u 0)) (hB : BkOk b u g) (h52 : u 5 2 = -1) (h53 : 0 ≤ u 5 3 ∧ u 5 3 ≤ 3000) (hm : m ≤ 3) (hn : sOn (u 0) m = n) (hp : p + 1 < n) (ha : u 0 (183 + 5 * m + p) = a) (hc : u 0 (183 + 5 * m + (p + 1)) = c) :
    zMet yX11_tryPair (ws_ yX11_tryPair cX11_tryPair 7 none) 7 [.ref S, .ref (b + 52 + a.toNat), .ref (b + 52 + c.toNat)] (sH b u g) (fun z h' => ∃ u' v, z = .inl none ∧ h' = sH b u' (zup g S (.inr (10, seF b L B (tryX x m p v (fbN F G T c a (x 2 - x 0) n9))))) ∧ MkR (sXc (u 0) m p) (oB 0) v ∧ u' 0 = u 0 ∧ SO u u' ∧ -1 ≤ v ∧ v ≤ 2000) 0 0 := by
  have h20 := hA.2.1.1
  obtain ⟨o1, o2, o3, o4⟩ := hO m (by omega) (by omega)
  have ea : sOr (u 0) m p = a := by rw [← ha]; exact congrArg (u 0) (by omega)
  have ec : sOr (u 0) m (p + 1) = c := by rw [← hc]; exact congrArg (u 0) (by omega)
  have oa := o2 p (by omega) (by omega)
  have oc := o2 (p + 1) (by omega) (by omega)
  rw [ea] at oa
  rw [ec] at oc
  have n5 : n ≤ 5 := by omega
  have on : u 0 (179 + m) = n := by rw [← hn]; exact congrArg (u 0) (by omega)
  have hA2 := sXc_A (m := m) (p := p) (by omega) (by omega) hA
  have hO2 := sXc_O (m := m) (p := p) hA hO (by omega) (by omega)
  have hfb : -1000 ≤ a ∧ a ≤ 1000 := by omega
  refine zMet.of (by decide) (Nat.le_of_ble_eq_true rfl) fun X K => ?_
  generalize hQ : (fun (z : zO) (h' : zH) => ∃ u' v, z = .inl none ∧ h' = sH b u' (zup g S (.inr (10, seF b L B (tryX x m p v (fbN F G T c a (x 2 - x 0) n9))))) ∧ MkR (sXc (u 0) m p) (oB 0) v ∧ u' 0 = u 0 ∧ SO u u' ∧ -1 ≤ v ∧ v ≤ 2000) = Q
  have hq : ∀ u' v, MkR (sXc (u 0) m p) (oB 0) v → u' 0 = u 0 → SO u u' → (-1 ≤ v ∧ v ≤ 2000) → Q (.inl none) (sH b u' (zup g S (.inr (10, seF b L B (tryX x m p v (fbN F G T c a (x 2 - x 0) n9)))))) := fun u' v a1 a2 a3 a4 => by rw [← hQ]; exact ⟨u', v, rfl, rfl, a1, a2, a3, a4⟩
  clear hQ
  have hor := sH_oN (b := b) (u := u) (g := g) hm
  rw [on] at hor
  have hrw := sH_rN (b := b) (u := u) (g := g) hm
  have hgo := gt_ord (b := b) (u := u) (g := g) (m := m) (by omega)
  rw [Int.toNat_natCast] at hgo
  have hps := x3_pos (v := a) hor hrw (by omega) (fun q hq => by have := (o2 q (by omega) (by omega)).1; rw [show u 0 (183 + 5 * m + q) = sOr (u 0) m q from congrArg (u 0) (by omega)]; omega) (by omega)
  have hPu : ∀ P : Nat, (P : Int) ≤ n → (∀ q, q < P → u 0 (183 + 5 * m + q) ≠ a) → ((P : Int) < n → u 0 (183 + 5 * m + P) = a) → P = p := fun P h1 h2 h3 => by
    rcases Nat.lt_trichotomy P p with q | q | q
    · have := o3 P p (by omega) (by omega) (by omega) (by omega) (by rw [ea, ← h3 (by omega)]; exact congrArg (u 0) (by omega))
      omega
    · exact q
    · exact absurd ha (h2 p q)
  have hsw := x3_swap (p := p) hor hrw (by omega) (by omega)
  rw [sH_rowF hm hA.1, sPut_ex (by omega)] at hsw
  generalize hw : wRow u (sXc (u 0) m p) = w at *
  have w0 : w 0 = sXc (u 0) m p := by rw [← hw]; exact wRow_0
  have wf : ∀ f, f ≠ 0 → w f = u f := fun f hf => by rw [← hw]; exact wRow_f hf
  have wlo : ∀ i, i < 183 → w 0 i = u 0 i := fun i hi => by rw [w0]; exact sXc_lo (by omega) (by omega) hi
  have hSOw : SO u w := by rw [← hw]; exact SO.row
  have hsc := x2_isScheduled (b := b) (u := w) (g := g) (a := 0) (bb := 500) (by decide) hb (by omega) (Or.inl (by rw [wf 5 (by decide)]; exact h52)) (by rw [w0]; exact hA2) (by rw [w0]; exact hO2) (hSOw.bk hA.2.2.2.2.2 (fun i hi => wlo i (by omega)) hB) (by rw [wf 5 (by decide), h52]; omega) (by rw [wf 5 (by decide)]; exact h53)
  rw [wf 5 (by decide), h52] at hsc
  have hw1 : w 0 1 = u 0 1 := wlo 1 (by omega)
  -- after the second swap
  have c96 : ∀ (u2 : tW) (v is val : Int), MkR (sXc (u 0) m p) (oB 0) v → (-1 ≤ v ∧ v ≤ 2000) → SO w u2 → u2 0 = w 0 → (-2147483648 ≤ val ∧ val ≤ 2147483647) → (is = 0 ∨ is = 1) → (is = 1 ↔ (0 ≤ v ∧ (fbN F G T c a (x 2 - x 0) n9 = 0 ∨ v < x 1))) → (0 ≤ v → val = v) → ∀ env, zsub env [(0, .ref S), (1, .ref (b + 52 + a.toNat)), (4, .int (iI p)), (5, .int (iI is)), (6, .int (iI val))] → zW X Q (sH b (wRow u2 (u 0)) g) 0 0 96 env [] := by
    intro u2 v is val hv hvb hso h20 hvr his hi hval env he
    refine zW.cut he ?_
    have o1 : SO u (wRow u2 (u 0)) := (hSOw.tr hso).tr SO.row
    have r0 : wRow u2 (u 0) 0 = u 0 := wRow_0
    have hq2 := hq (wRow u2 (u 0)) v hv r0 o1 hvb
    have hGS : sH b (wRow u2 (u 0)) g S = some (.inr (10, seF b L B x)) := (sH_out (by omega)).trans hG
    have hop : sH b (wRow u2 (u 0)) g (b + 52 + a.toNat) = some (.inr (5, [.int (iI a), .int (iI (u 0 (42 + a).toNat)), .int (iI m), .int (iI (u 0 (102 + a).toNat)), .int (iI (u 0 (122 + a).toNat)), .int (iI (u 0 (82 + a).toNat))])) := by
      have := sH_op (b := b) (u := wRow u2 (u 0)) (g := g) (k := a) (by rw [r0]; exact oa.1) (by rw [r0]; omega)
      rw [r0, show u 0 (62 + a).toNat = (m : Int) from oa.2] at this
      exact this
    have no : ¬ (0 ≤ v ∧ (fbN F G T c a (x 2 - x 0) n9 = 0 ∨ v < x 1) ∧ (x 3 = -1 ∨ isB x v m p)) → Q (.inl none) (sH b (wRow u2 (u 0)) g) := fun hn => by
      rw [tryX_n hn, zup_self hG] at hq2
      exact hq2
    have yes : (0 ≤ v ∧ (fbN F G T c a (x 2 - x 0) n9 = 0 ∨ v < x 1) ∧ (x 3 = -1 ∨ isB x v m p)) → Q (.inl none) (sH b (wRow u2 (u 0)) (zup g S (.inr (10, seF b L B (sup (sup (sup x 3 m) 4 p) 5 val))))) := fun hy => by
      rw [tryX_y hy] at hq2
      rw [hval hy.1]
      exact hq2
    clear hq2
    have s1 : zup (sH b (wRow u2 (u 0)) g) S (.inr (10, (seF b L B x).set 6 (.int (iI m)))) = sH b (wRow u2 (u 0)) (zup g S (.inr (10, seF b L B (sup x 3 m)))) := by rw [sH_upo (by omega)]; rfl
    have s2 : zup (sH b (wRow u2 (u 0)) (zup g S (.inr (10, seF b L B (sup x 3 m))))) S (.inr (10, (seF b L B (sup x 3 m)).set 7 (.int (iI p)))) = sH b (wRow u2 (u 0)) (zup g S (.inr (10, seF b L B (sup (sup x 3 m) 4 p)))) := by rw [sH_upo (by omega), zup_zup]; rfl
    have s3 : zup (sH b (wRow u2 (u 0)) (zup g S (.inr (10, seF b L B (sup (sup x 3 m) 4 p))))) S (.inr (10, (seF b L B (sup (sup x 3 m) 4 p)).set 8 (.int (iI val)))) = sH b (wRow u2 (u 0)) (zup g S (.inr (10, seF b L B (sup (sup (sup x 3 m) 4 p) 5 val)))) := by rw [sH_upo (by omega), zup_zup]; rfl
    have hx3 := hxr 3 (by omega)
    have hbt := x11_isBetter (h := sH b (wRow u2 (u 0)) g) (v := val) (m := m) (p := p) hGS hvr (by omega) (by omega) hxr
    have e125 : (0 ≤ v ∧ (fbN F G T c a (x 2 - x 0) n9 = 0 ∨ v < x 1) ∧ (x 3 = -1 ∨ isB x v m p)) → ∀ env, zsub env [(0, .ref S), (1, .ref (b + 52 + a.toNat)), (4, .int (iI p)), (6, .int (iI val))] → zW X Q (sH b (wRow u2 (u 0)) g) 0 0 125 env [] := fun hy env he => by
      refine zW.cut he ?_
      have yq := yes hy
      clear yes no
      refine z_aload_n K dX11_tryPair_125 rfl rfl rfl ?_
      refine z_aload_n K dX11_tryPair_126 rfl rfl rfl ?_
      refine z_get K fd_X11_69_5 (hop) rfl dX11_tryPair_127 ?_
      refine z_putE K fd_X11_95_10 ⟨_, rfl, Or.inl rfl⟩ (hGS) (by omega) (Nat.le_of_ble_eq_true rfl) (zf_i) dX11_tryPair_130 (s1) ?_
      refine z_aload_n K dX11_tryPair_133 rfl rfl rfl ?_
      refine z_iload K dX11_tryPair_134 rfl ?_
      refine z_putE K fd_X11_102_10 ⟨_, rfl, Or.inl rfl⟩ ((sH_out (by omega)).trans (zup_at _ _ _)) (by omega) (Nat.le_of_ble_eq_true rfl) (zf_i) dX11_tryPair_136 (s2) ?_
      refine z_aload_n K dX11_tryPair_139 rfl rfl rfl ?_
      refine z_iload K dX11_tryPair_140 rfl ?_
      refine z_putE K fd_X11_105_10 ⟨_, rfl, Or.inl rfl⟩ ((sH_out (by omega)).trans (zup_at _ _ _)) (by omega) (Nat.le_of_ble_eq_true rfl) (zf_i) dX11_tryPair_142 (s3) ?_
      exact z_vret K (by omega) (by omega) (yq) dX11_tryPair_145
    refine z_iload K dX11_tryPair_96 rfl ?_
    refine j_if_eq (tgt := 124) K dX11_tryPair_98 rfl (by omega) (fun c_98 => ?_) (fun c_98 => ?_)
    · have yq := no (fun q => by have := hi.mpr ⟨q.1, q.2.1⟩; omega)
      exact z_vret K (by omega) (by omega) (yq) dX11_tryPair_124
    · obtain ⟨iv1, iv2⟩ := hi.mp (by omega)
      refine z_aload_n K dX11_tryPair_101 rfl rfl rfl ?_
      refine z_get K fd_X11_95_10 (hGS) rfl dX11_tryPair_102 ?_
      refine j_iconst K dX11_tryPair_105 ?_
      refine j_icmp_eq (tgt := 125) K dX11_tryPair_106 rfl (by exact hx3) (by omega) (fun c_106 => ?_) (fun c_106 => ?_)
      · exact e125 ⟨iv1, iv2, Or.inl (by omega)⟩ _ ⟨rfl, rfl, rfl, rfl, trivial⟩
      · refine z_aload_n K dX11_tryPair_109 rfl rfl rfl ?_
        refine z_iload K dX11_tryPair_110 rfl ?_
        refine z_aload_n K dX11_tryPair_112 rfl rfl rfl ?_
        refine z_get K fd_X11_69_5 (hop) rfl dX11_tryPair_113 ?_
        refine z_iload K dX11_tryPair_116 rfl ?_
        refine z_callV K (hbt) cV_X11_98_X11 (hGS) rfl rfl rfl (by omega) (by omega) (by omega) (Nat.le_of_ble_eq_true rfl) dX11_tryPair_118 zrX (zrK ?_)
        refine j_if_ne (tgt := 125) K dX11_tryPair_121 rfl (b01r _) (fun c_121 => ?_) (fun c_121 => ?_)
        · exact e125 ⟨iv1, iv2, Or.inr (by rw [← hval iv1]; exact bI_ne.mp c_121)⟩ _ ⟨rfl, rfl, rfl, rfl, trivial⟩
        · have yq := no (fun q => q.2.2.elim (fun q => by omega) (fun q => bI_eq.mp c_121 (by rw [hval iv1]; exact q)))
          exact z_vret K (by omega) (by omega) (yq) dX11_tryPair_124
  have c42 : ∀ (u2 : tW) (rd st : Nat → Int), SK w u2 → SR (w 0) (oB 0) (-1) (u 5 3) rd st u2 → Tp (w 0) (oB 0) (-1) (u 5 3) rd st → Tq (w 0) (oB 0) st → (∀ i : Nat, (i : Int) < w 0 1 → -1 ≤ st i ∧ st i ≤ 500 + 800) → ∀ env, zsub env [(0, .ref S), (1, .ref (b + 52 + a.toNat)), (2, .ref (b + 52 + c.toNat)), (3, .ref (b + 20 + m)), (4, .int (iI p))] → zW X Q (sH b u2 g) 0 0 42 env [.int (iI (bI (cntU st (w 0 1).toNat = 0)))] := by
    intro u2 rd st hK2 hR2 hT2 hQ2 hbd env he
    refine zW.cut he ?_
    obtain ⟨e0, -, -, -, e50, -, -⟩ := id hR2
    have hcr := cntU_r st (w 0 1).toNat
    have hmr : MkR (sXc (u 0) m p) (oB 0) (mkS (w 0) st) := by rw [← w0]; exact ⟨rd, st, Tp.hu0 hT2, hQ2, rfl⟩
    have hso2 : SO w u2 := hK2.so
    have e2 : u2 0 = w 0 := e0
    have hG2 : sH b u2 g S = some (.inr (10, seF b L B x)) := (sH_out (by omega)).trans hG
    have hgm0 := gMx_0 (w 0) st (w 0 1).toNat
    have hgm1 := gMx_le (s := w 0) (st := st) (B := 2000) (by omega) (w 0 1).toNat (fun i hi hs => by
      have := hbd i (by omega)
      have hdu : 1 ≤ u 0 (82 + (i : Int)).toNat ∧ u 0 (82 + (i : Int)).toNat ≤ 30 := (hA.2.1.2 i (by omega) (by rw [← hw1]; omega)).2.2.1
      have : w 0 (82 + (i : Int)).toNat = u 0 (82 + (i : Int)).toNat := wlo _ (by omega)
      omega)
    rw [← e50] at hgm0 hgm1
    have opk : ∀ k : Int, (0 ≤ k ∧ k < u 0 1) → sH b u2 g (b + 52 + k.toNat) = some (.inr (5, [.int (iI k), .int (iI (u 0 (42 + k).toNat)), .int (iI (u 0 (62 + k).toNat)), .int (iI (u 0 (102 + k).toNat)), .int (iI (u 0 (122 + k).toNat)), .int (iI (u 0 (82 + k).toNat))])) := fun k hk => by
      have := sH_op (b := b) (u := u2) (g := g) (k := k) (by rw [e2, hw1]; exact hk) (by rw [e2, hw1]; omega)
      rw [e2, wlo _ (by omega), wlo _ (by omega), wlo _ (by omega), wlo _ (by omega), wlo _ (by omega)] at this
      exact this
    have hoa := opk a oa.1
    have hoc := opk c oc.1
    have hfb := x11_isForbidden (h := sH b u2 g) (f := c) (s := a) hG2 ((sH_out (by omega)).trans hL) (fun q => (sH_out (Or.inr (hno9 q))).trans (ha9 q)) hnN hN9 (fun i hi => (sH_out (Or.inr (hMo i hi))).trans (hM i hi)) hrM (by omega) (by omega) hx0 hx2
    have h01 := fbN_r F G T c a (x 2 - x 0) n9
    have hor2 := sH_oN (b := b) (u := u2) (g := g) hm
    have hrw2 := sH_rN (b := b) (u := u2) (g := g) hm
    have hJ2 : WfJ (u2 0) := by rw [e2, w0]; exact hA2.1
    have hsw2 := x3_swap (p := p) hor2 hrw2 (by omega) (by omega)
    rw [sH_rowF hm hJ2, sPut_ex (by omega), e2, w0, sXc_twice (by omega) (by omega)] at hsw2
    have hx1 := hxr 1 (by omega)
    have c79 : ∀ is : Int, (is = 0 ∨ is = 1) → (is = 1 ↔ (0 ≤ mkS (w 0) st ∧ (fbN F G T c a (x 2 - x 0) n9 = 0 ∨ mkS (w 0) st < x 1))) → ∀ env, zsub env [(0, .ref S), (1, .ref (b + 52 + a.toNat)), (3, .ref (b + 20 + m)), (4, .int (iI p))] → zW X Q (sH b u2 g) 0 0 79 env [.int (iI is)] := fun is his hi env he => by
      refine zW.cut he ?_
      have nx := c96 u2 (mkS (w 0) st) is (u2 5 0) hmr (by unfold mkS; split; omega; rw [← gMx_all _ (by omega), ← e50]; omega) hso2 e2 (by omega) his hi (fun q => by
        unfold mkS at q ⊢
        by_cases hz : 0 < cntU st (w 0 1).toNat
        · rw [if_pos hz] at q; omega
        · rw [if_neg hz, e50, gMx_all _ (by omega)])
      clear c96
      refine z_istore K dX11_tryPair_79 (by decide) rfl ?_
      refine z_aload_n K dX11_tryPair_81 rfl rfl rfl ?_
      refine z_get K fd_X11_18_10 (hG2) rfl dX11_tryPair_82 ?_
      refine z_get K fd_X11_29_2 (sH_shop) rfl dX11_tryPair_85 ?_
      refine z_istore K dX11_tryPair_88 (by decide) rfl ?_
      refine z_aload_n K dX11_tryPair_90 rfl rfl rfl ?_
      refine z_iload K dX11_tryPair_91 rfl ?_
      refine z_callV K (hsw2) cV_X11_83_X3 (hor2) rfl rfl rfl (by omega) (by omega) (by omega) (Nat.le_of_ble_eq_true rfl) dX11_tryPair_93 zvX (zvK ?_)
      exact nx _ ⟨rfl, rfl, rfl, rfl, rfl, trivial⟩
    clear c96
    have vpos : cntU st (w 0 1).toNat = 0 → mkS (w 0) st = u2 5 0 := fun hz => by unfold mkS; rw [if_neg (by omega), e50, gMx_all _ hz]
    have vneg : cntU st (w 0 1).toNat ≠ 0 → mkS (w 0) st = -1 := fun hz => by unfold mkS; rw [if_pos (by omega)]
    refine j_if_eq (tgt := 78) K dX11_tryPair_42 rfl (b01r _) (fun c_42 => ?_) (fun c_42 => ?_)
    · have hz := bI_eq.mp c_42
      have z9 := c79 0 (Or.inl rfl) (by rw [vneg hz]; omega)
      refine j_iconst K dX11_tryPair_78 ?_
      exact z9 _ ⟨rfl, rfl, rfl, rfl, trivial⟩
    · have hz := bI_ne.mp c_42
      have z8 := vpos hz
      refine z_aload_n K dX11_tryPair_45 rfl rfl rfl ?_
      refine z_aload_n K dX11_tryPair_46 rfl rfl rfl ?_
      refine z_get K fd_X11_76_5 (hoc) rfl dX11_tryPair_47 ?_
      refine z_aload_n K dX11_tryPair_50 rfl rfl rfl ?_
      refine z_get K fd_X11_76_5 (hoa) rfl dX11_tryPair_51 ?_
      refine z_callV K (hfb) cV_X11_91_X11 (hG2) rfl rfl rfl (by omega) (by omega) (by omega) (Nat.le_of_ble_eq_true rfl) dX11_tryPair_54 zrX (zrK ?_)
      refine j_if_eq (tgt := 74) K dX11_tryPair_57 rfl (by omega) (fun c_57 => ?_) (fun c_57 => ?_)
      · have z9 := c79 1 (Or.inr rfl) (by omega)
        refine j_iconst K dX11_tryPair_74 ?_
        refine z_goto (tgt := 79) K dX11_tryPair_75 rfl ?_
        exact z9 _ ⟨rfl, rfl, rfl, rfl, trivial⟩
      · refine z_aload_n K dX11_tryPair_60 rfl rfl rfl ?_
        refine z_get K fd_X11_18_10 (hG2) rfl dX11_tryPair_61 ?_
        refine z_get K fd_X11_29_2 (sH_shop) rfl dX11_tryPair_64 ?_
        refine z_aload_n K dX11_tryPair_67 rfl rfl rfl ?_
        refine z_get K fd_X11_34_10 (hG2) rfl dX11_tryPair_68 ?_
        refine j_icmp_ge (tgt := 78) K dX11_tryPair_71 rfl (by omega) (by omega) (fun c_71 => ?_) (fun c_71 => ?_)
        · have z9 := c79 0 (Or.inl rfl) (by omega)
          refine j_iconst K dX11_tryPair_78 ?_
          exact z9 _ ⟨rfl, rfl, rfl, rfl, trivial⟩
        · have z9 := c79 1 (Or.inr rfl) (by omega)
          refine j_iconst K dX11_tryPair_74 ?_
          refine z_goto (tgt := 79) K dX11_tryPair_75 rfl ?_
          exact z9 _ ⟨rfl, rfl, rfl, rfl, trivial⟩
  clear c96
  have hoa0 : sH b u g (b + 52 + a.toNat) = _ := sH_op oa.1 (by omega)
  rw [show u 0 (62 + a).toNat = (m : Int) from oa.2] at hoa0
  refine z_aload_n K dX11_tryPair_0 rfl rfl rfl ?_
  refine z_get K fd_X11_18_10 ((sH_out (by omega)).trans hG) rfl dX11_tryPair_1 ?_
  refine z_get K fd_X11_66_2 (sH_shop) rfl dX11_tryPair_4 ?_
  refine z_aload_n K dX11_tryPair_7 rfl rfl rfl ?_
  refine z_get K fd_X11_69_5 (hoa0) rfl dX11_tryPair_8 ?_
  refine z_callV K (hgo) cV_X11_48_J2 (sH_ords) rfl rfl rfl (by omega) (by omega) (by omega) (Nat.le_of_ble_eq_true rfl) dX11_tryPair_11 zrX (zrK ?_)
  refine z_castS K (hor) rfl q1293 dX11_tryPair_14 ?_
  refine z_astore_n K dX11_tryPair_17 rfl rfl (by decide) rfl ?_
  refine z_aload_n K dX11_tryPair_18 rfl rfl rfl ?_
  refine z_aload_n K dX11_tryPair_19 rfl rfl rfl ?_
  refine z_get K fd_X11_76_5 (hoa0) rfl dX11_tryPair_20 ?_
  refine z_callV K (hps) cV_X11_79_X3 (hor) rfl rfl rfl (by omega) (by omega) (by omega) (Nat.le_of_ble_eq_true rfl) dX11_tryPair_23 (fun _ _ ⟨_, e, _⟩ => nomatch e) ?_
  rintro _ _ ⟨P, ez, rfl, hP1, hP2, hP3⟩
  cases ez
  obtain rfl : P = p := hPu P hP1 hP2 hP3
  refine z_istore K dX11_tryPair_26 (by decide) rfl ?_
  refine z_aload_n K dX11_tryPair_28 rfl rfl rfl ?_
  refine z_iload K dX11_tryPair_29 rfl ?_
  refine z_callV K (hsw) cV_X11_83_X3 (hor) rfl rfl rfl (by omega) (by omega) (by omega) (Nat.le_of_ble_eq_true rfl) dX11_tryPair_31 zvX (zvK ?_)
  refine z_aload_n K dX11_tryPair_34 rfl rfl rfl ?_
  refine z_get K fd_X11_18_10 ((sH_out (by omega)).trans hG) rfl dX11_tryPair_35 ?_
  refine j_iconst K dX11_tryPair_38 ?_
  refine z_callV K (hsc) cV_X11_87_X2 (sH_shop) rfl rfl rfl (by omega) (by omega) (by omega) (Nat.le_of_ble_eq_true rfl) dX11_tryPair_39 (fun _ _ ⟨_, _, _, e, _⟩ => nomatch e) ?_
  rintro _ _ ⟨u2, rd, st, ez, rfl, hK2, hR2, hT2, hQ2, hbd⟩
  cases ez
  exact c42 u2 rd st hK2 hR2 hT2 hQ2 hbd _ ⟨rfl, rfl, rfl, rfl, rfl, trivial⟩
end XTp

