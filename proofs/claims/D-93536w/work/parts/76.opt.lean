/-! ===== the component: the best order of a machine ===== -/
/-- a contract's end may be told more weakly -/
theorem zMet.weaken {y : MethodName} {ws : List Cond} {d : Nat} {as : List Value} {h : zH} {Q Q' : zO → zH → Prop} {mc ms : Nat} (k : zMet y ws d as h Q mc ms) (q : ∀ z h', Q z h' → Q' z h') : zMet y ws d as h Q' mc ms := by
  intro l D dA r0 A as' hfl has
  refine (k l D dA r0 A as' hfl has).mono (fun _ _ z => z) (fun _ _ _ _ _ z => z) fun _ _ o t _ z => ?_
  rcases z with ⟨v, v', r', h', z1, z2, z3, z4⟩ | ⟨n, p, r', h', E, ce, L, z1, z2, z3, z4⟩
  · exact Or.inl ⟨v, v', r', h', z1, z2, q _ _ z3, z4⟩
  · exact Or.inr ⟨n, p, r', h', E, ce, L, z1, z2, q _ _ z3, z4⟩
/-- an order of one's own, at N and N + 1 -/
def tO (N : Nat) (k : Int) (f : Nat → Int) (g : zH) : zH := zup (zup g (N + 1) (aI 5 f)) N (oO (N + 1) k)
theorem tO_0 {N : Nat} {k : Int} {f : Nat → Int} {g : zH} : tO N k f g N = some (oO (N + 1) k) := zup_at _ _ _
theorem tO_1 {N : Nat} {k : Int} {f : Nat → Int} {g : zH} : tO N k f g (N + 1) = some (aI 5 f) := (zup_ne (by omega)).trans (zup_at _ _ _)
theorem tO_o {N m : Nat} {k : Int} {f : Nat → Int} {g : zH} (h : m < N ∨ N + 2 ≤ m) : tO N k f g m = g m := (zup_ne (by omega)).trans (zup_ne (by omega))
theorem tO_ext {N : Nat} {k : Int} {f : Nat → Int} {g : zH} : zExt N g (tO N k f g) := fun m hm => tO_o (by omega)
theorem tO_top {N : Nat} {k : Int} {f : Nat → Int} {g : zH} (h : zTop g N) : zTop (tO N k f g) (N + 2) := fun m hm => (tO_o (by omega)).trans (h m (by omega))
theorem tO_put {N : Nat} {k k2 : Int} {f f2 : Nat → Int} {g : zH} : zup (zup (tO N k f g) (N + 1) (aI 5 f2)) N (oO (N + 1) k2) = tO N k2 f2 g := by
  unfold tO
  funext m
  by_cases e : m = N
  · subst e; rw [zup_at, zup_at]
  · rw [zup_ne e, zup_ne e]
    by_cases e2 : m = N + 1
    · subst e2; rw [zup_at, zup_at]
    · rw [zup_ne e2, zup_ne e, zup_ne e2, zup_ne e2]
theorem wRow_t {w : tW} {i : Nat} {v : Int} : tset w 0 i v = wRow w (sup (w 0) i v) := by
  have h := wRow_e (w := w) (w' := tset w 0 i v) (fun f hf => tsG hf)
  rw [tsP] at h
  exact h
section XOp
variable {b : Nat} {u : tW} {g : zH} {N m : Nat}
theorem sH_oN (hm : m ≤ 3) : sH b u g (b + 20 + m) = some (oO (b + 24 + m) (u 0 (179 + m))) := by
  rw [Nat.add_assoc b 20, sH_in _ (by omega), sC_20 (by omega)]
theorem sH_rN (hm : m ≤ 3) : sH b u g (b + 24 + m) = some (aI 5 fun q => u 0 (183 + 5 * m + q)) := by
  rw [Nat.add_assoc b 24, sH_in _ (by omega), sC_24 (by omega)]
/-- another row of orders: only that cell changes -/
theorem sH_rowF {f : Nat → Int} (hm : m ≤ 3) (hJ : WfJ (u 0)) : zup (sH b u g) (b + 24 + m) (aI 5 f) = sH b (wRow u (sPut (u 0) m 5 f)) g := by
  have w0 : wRow u (sPut (u 0) m 5 f) 0 = sPut (u 0) m 5 f := wRow_0
  have wf : ∀ i, i ≠ 0 → wRow u (sPut (u 0) m 5 f) i = u i := fun i hi => wRow_f hi
  rw [Nat.add_assoc b 24]
  refine sH_up (by omega) ?_ (fun i hi hne => ?_)
  · rw [sC_24 (by omega), w0]
    exact congrArg some (aI_congr fun q hq => sPut_at hq)
  · by_cases hz : ∃ j, j < 5 ∧ i = 47 + j ∧ ¬ (j : Int) < u 0 0
    · obtain ⟨j, hj, rfl, hz⟩ := hz
      rw [sC_47 hj, sC_47 hj, w0, sPut_lo (i := 0) (by omega), if_neg (fun q => hz q.1), if_neg (fun q => hz q.1)]
    · refine (sC_eq hi (by rw [w0]; exact sPut_lo (by omega)) (by rw [w0]; exact sPut_lo (by omega)) (fun _ j _ => by rw [wf 5 (by decide)]) (fun j => Or.inl (by rw [wf 6 (by decide)])) (fun e c hc => by rw [w0]; exact sPut_lo (by omega)) (fun x hx e => ⟨by rw [wf 7 (by decide)], by rw [w0]; exact sPut_lo (by omega)⟩) (fun x hx e q => by rw [wf 8 (by decide)]) (fun x hx e => by rw [w0]; exact sPut_lo (by omega)) (fun x hx e p hp => by rw [w0]; exact sPut_lo (by omega)) (fun x hx e => by rw [wf _ (by omega)]) (fun j hj e q hq => by rw [w0]; exact sPut_lo (by omega)) (fun j hj e => by rw [w0]; exact sPut_lo (by omega)) (fun j hj e q hq => ?_) (fun k hk e => ?_)).symm
      · have h1 : (j : Int) < u 0 0 := Classical.not_not.mp fun h9 => hz ⟨j, hj, e, h9⟩
        have h3 := (hJ.2 j (by omega) h1).2.2.2.2
        have h4 : sLen (u 0) j = u 0 (17 + j) := congrArg (u 0) (by omega)
        rw [h4] at h3
        rw [w0]
        exact sPut_lo (by omega)
      · rw [w0]
        exact ⟨sPut_lo (by omega), sPut_lo (by omega), sPut_lo (by omega), sPut_lo (by omega), sPut_lo (by omega)⟩
theorem x3_newS (hT : zTop g N) (hN : b + 72 ≤ N) (hb : 1000 ≤ b) : zMet yX3_init (ws_ yX3_init cX3_init 1 none) 2 [.ref N] (zup (sH b u g) N (.inr (3, [.null, .int 0]))) (zVd (sH b u (tO N 0 (fun _ => 0) g))) 1 5 := by
  have h9 := x3_init (h := zup (sH b u g) N (.inr (3, [.null, .int 0]))) (o := N) (r := N + 1) (zup_at _ _ _) (by rw [zup_ne (by omega), sH_out (by omega)]; exact hT _ (by omega)) (by omega) (by omega)
  have e : zup (zup (zup (sH b u g) N (.inr (3, [.null, .int 0]))) (N + 1) (aI 5 fun _ => 0)) N (oO (N + 1) 0) = sH b u (tO N 0 (fun _ => 0) g) := by
    unfold tO
    rw [zup_comm (show N ≠ N + 1 by omega), zup_zup, sH_upo (by omega), sH_upo (by omega)]
  rw [e] at h9
  exact h9
/-- what stays when orders and times change -/
def SO (u u' : tW) : Prop := (∀ f, 6 ≤ f → u' f = u f) ∧ u' 5 2 = u 5 2 ∧ u' 5 3 = u 5 3 ∧ (T3 u → T3 u')
theorem SO.rf {u : tW} : SO u u := ⟨fun _ _ => rfl, rfl, rfl, id⟩
theorem SO.tr {u v w : tW} (h : SO u v) (g : SO v w) : SO u w := ⟨fun f a => (g.1 f a).trans (h.1 f a), g.2.1.trans h.2.1, g.2.2.1.trans h.2.2.1, fun z => g.2.2.2 (h.2.2.2 z)⟩
theorem SK.so {u v : tW} (h : SK u v) : SO u v := ⟨fun f a => h.1 f (by omega) (by omega) (by omega) (by omega) (by omega), h.2.1, h.2.2⟩
theorem SO.row {u : tW} {s : Nat → Int} : SO u (wRow u s) := ⟨fun f a => wRow_f (by omega), by rw [wRow_f (by decide)], by rw [wRow_f (by decide)], fun z k => by rw [wRow_f (by decide)]; exact z k⟩
theorem SO.bk {b : Nat} {u u' : tW} {g : zH} (h : SO u u') (hW : WfB (u 0)) (e : ∀ i, i < 179 → u' 0 i = u 0 i) (hB : BkOk b u g) : BkOk b u' g := by
  intro m i m0 m1 i0 i1
  have hb := (hW m m0 m1).1
  rw [e _ (by omega)] at i1
  rw [h.1 7 (by decide), h.1 8 (by decide)]
  obtain ⟨a1, a2, a3, a4⟩ := hB m i m0 m1 i0 i1
  have i3 : i < 3 := by
    have : sBn (u 0) m ≤ 3 := hb.2
    dsimp only [sBn] at this
    omega
  exact ⟨a1, a2, a3, by rw [a4, e _ (by omega), e _ (by omega)]⟩
/-- the world with another order of the machine m -/
def oW (s : Nat → Int) (m n : Nat) (c : Nat → Int) (u u' : tW) : Prop := u' 0 = sPut s m n c ∧ SO u u'
theorem sPut5 {s : Nat → Int} {m n : Nat} {c f : Nat → Int} (hn : n ≤ 5) (h1 : ∀ i, i < n → f i = c i) (h2 : ∀ i, n ≤ i → i < 5 → f i = s (183 + 5 * m + i)) : sPut s m 5 f = sPut s m n c := by
  funext i
  unfold sPut
  by_cases e : 183 + 5 * m ≤ i ∧ i < 183 + 5 * m + 5
  · rw [if_pos e]
    by_cases e2 : i < 183 + 5 * m + n
    · rw [if_pos ⟨e.1, e2⟩, h1 _ (by omega)]
    · rw [if_neg (by omega), h2 _ (by omega) (by omega), show 183 + 5 * m + (i - (183 + 5 * m)) = i by omega]
  · rw [if_neg e, if_neg (by omega)]
theorem sPut5b {s : Nat → Int} {m n : Nat} {c f c0 : Nat → Int} (hn : n ≤ 5) (h1 : ∀ i, i < n → f i = c i) (h2 : ∀ i, n ≤ i → i < 5 → f i = s (183 + 5 * m + i)) : sPut (sPut s m n c0) m 5 f = sPut (sPut s m n c0) m n c := sPut5 hn h1 (fun i i1 i2 => by rw [sPut_lo (by omega)]; exact h2 i i1 i2)
theorem sH_oszN {v : Int} (hv : u 0 (179 + m) = v) (hm : m ≤ 3) : zup (sH b u g) (b + 20 + m) (oO (b + 24 + m) v) = sH b u g := zup_self (by rw [sH_oN hm, hv])
theorem x2_optG {a n : Nat} (hb : 1000 ≤ b) (hN : b + 72 ≤ N) (hTp : zTop g N) (ha : a < 16) (hm : m ≤ 3) (hA : WfA (u 0)) (hO : WfO (u 0)) (hB : BkOk b u g) (hn : sOn (u 0) m = n) (h52 : u 5 2 = -1) (h53 : 0 ≤ u 5 3 ∧ u 5 3 ≤ 3000) :
    zMet yX2_optimize (ws_ yX2_optimize cX2_optimize 6 (some .int)) 7 [.ref b, .int (iI m), .int (iI a)] (sH b u g) (fun z h' => ∃ u' g' bm bo k fb f, z = .inl (some (.int (iI bm))) ∧ h' = zup (zup (sH b u' g') (b + 24 + m) (aI 5 fb)) (b + 20 + m) (oO (b + 24 + m) k) ∧ (-1 ≤ bm ∧ bm ≤ 10000) ∧ bOf (u 0) (oB a) m n (fun _ => True) bm bo ∧ isPm (u 0) m n f ∧ oW (u 0) m n f u u' ∧ (0 ≤ bm → k = n ∧ (∀ i, i < n → fb i = bo i) ∧ ∀ i, n ≤ i → i < 5 → fb i = (u 0) (183 + 5 * m + i)) ∧ zExt N g g' ∧ zTop g' (N + 2)) 2 10 := by
  have hn5 := (hO m (by omega) (by omega)).1
  rw [hn] at hn5
  have h20 := hA.2.1.1
  have on : u 0 (179 + m) = n := by rw [← hn]; exact congrArg (u 0) (by omega)
  generalize hs : u 0 = s at *
  generalize ho : oB a = o at *
  have row : ∀ (u1 : tW) (f : Nat → Int), u1 0 = sPut s m n f → (∀ i, n ≤ i → i < 5 → f i = s (183 + 5 * m + i)) → aI 5 (fun q => u1 0 (183 + 5 * m + q)) = aI 5 f := fun u1 f e1 e2 => aI_congr fun q hq => by
    rw [e1]
    by_cases z : q < n
    · exact sPut_at z
    · rw [sPut_lo (by omega), e2 q (by omega) hq]
  have onu : ∀ (u1 : tW) (f : Nat → Int), u1 0 = sPut s m n f → u1 0 (179 + m) = n := fun u1 f e1 => by rw [e1, sPut_lo (by omega)]; exact on
  refine zMet.of (by decide) (Nat.le_of_ble_eq_true rfl) fun X K => ?_
  -- behind the loop
  generalize hQ : (fun (z : zO) (h' : zH) => ∃ u' g' bm bo k fb f, z = .inl (some (.int (iI bm))) ∧ h' = zup (zup (sH b u' g') (b + 24 + m) (aI 5 fb)) (b + 20 + m) (oO (b + 24 + m) k) ∧ (-1 ≤ bm ∧ bm ≤ 10000) ∧ bOf s o m n (fun _ => True) bm bo ∧ isPm s m n f ∧ oW s m n f u u' ∧ (0 ≤ bm → k = n ∧ (∀ i, i < n → fb i = bo i) ∧ ∀ i, n ≤ i → i < 5 → fb i = s (183 + 5 * m + i)) ∧ zExt N g g' ∧ zTop g' (N + 2)) = Q
  have hq : ∀ u' g' bm bo (k : Int) fb f, (-1 ≤ bm ∧ bm ≤ 10000) → bOf s o m n (fun _ => True) bm bo → isPm s m n f → oW s m n f u u' → (0 ≤ bm → k = n ∧ (∀ i, i < n → fb i = bo i) ∧ ∀ i, n ≤ i → i < 5 → fb i = s (183 + 5 * m + i)) → zExt N g g' → zTop g' (N + 2) → Q (.inl (some (.int (iI bm)))) (zup (zup (sH b u' g') (b + 24 + m) (aI 5 fb)) (b + 20 + m) (oO (b + 24 + m) k)) := fun u' g' bm bo k fb f a1 a2 a3 a4 a5 a6 a7 => by rw [← hQ]; exact ⟨u', g', bm, bo, k, fb, f, rfl, rfl, a1, a2, a3, a4, a5, a6, a7⟩
  clear hQ
  -- what is kept of the best one so far
  have step : ∀ (M : Nat) (u1 : tW) (f : Nat → Int), (3200000 - vlF f n).toNat < M → isPm s m n f → u1 0 = sPut s m n f → (∀ i, n ≤ i → i < 5 → f i = s (183 + 5 * m + i)) → SO u u1 → ∀ (bm : Int) (bo fb : Nat → Int) (k : Int), bOf s o m n (fun c => LT n c f) bm bo → (0 ≤ bm → k = n ∧ (∀ i, i < n → fb i = bo i) ∧ ∀ i, n ≤ i → i < 5 → fb i = s (183 + 5 * m + i)) → (-1 ≤ bm ∧ bm ≤ 10000) → ∀ env, zsub env [(0, .ref b), (2, .int (iI a)), (3, .ref (b + 20 + m)), (4, .ref N), (5, .int (iI bm))] → zW X Q (sH b u1 (tO N k fb g)) 2 7 28 env [] := by
    intro M
    induction M with
    | zero => intro u1 f h; omega
    | succ M ih =>
      intro u1 f hM hf e1 e2 hSO bm bo fb k hbo hkb hbr env he
      refine zW.cut he ?_
      obtain ⟨hA1, hO1⟩ := sPut_W hA hO hm hn hf
      rw [← e1] at hA1 hO1
      have hlow : ∀ i, i < 179 → u1 0 i = u 0 i := fun i hi => by rw [e1, hs, sPut_lo (by omega)]
      have hB1 : BkOk b u1 (tO N k fb g) := (hSO.bk (by rw [hs]; exact hA.2.2.2.2.2) hlow hB).ext tO_ext hTp
      have hfr : ∀ i, i < n → 0 ≤ f i ∧ f i < 20 := fun i hi => by have := (hf.1 i hi).1; omega
      -- behind the test
      have h66 : ∀ (u2 : tW) (bm' : Int) (bo' fb' : Nat → Int) (k' : Int), u2 0 = sPut s m n f → SO u u2 → bOf s o m n (fun c => LT n c f ∨ EQ n c f) bm' bo' → (0 ≤ bm' → k' = n ∧ (∀ i, i < n → fb' i = bo' i) ∧ ∀ i, n ≤ i → i < 5 → fb' i = s (183 + 5 * m + i)) → (-1 ≤ bm' ∧ bm' ≤ 10000) → ∀ env, zsub env [(0, .ref b), (2, .int (iI a)), (3, .ref (b + 20 + m)), (4, .ref N), (5, .int (iI bm'))] → zW X Q (sH b u2 (tO N k' fb' g)) 2 7 66 env [] := by
        intro u2 bm' bo' fb' k' e3 hSO2 hbo' hkb' hbr' env he
        refine zW.cut he ?_
        have hJ2 : WfJ (u2 0) := by rw [e3, ← e1]; exact hA1.1
        have hor := sH_oN (b := b) (u := u2) (g := tO N k' fb' g) hm
        rw [onu u2 f e3] at hor
        have hrw := sH_rN (b := b) (u := u2) (g := tO N k' fb' g) hm
        rw [row u2 f e3 e2] at hrw
        have hadv := x3_adv (h := sH b u2 (tO N k' fb' g)) (P := isPm s m n) (n := n) hor hrw (by omega) (by omega) hf (fun f p q h1 h2 h3 => h1.sw h2 h3) (fun f h1 p hp => by have := (h1.1 p hp).1; omega) (fun f h1 => h1.2)
        have htk := x3_take (h := sH b u2 (tO N k' fb' g)) (o2 := N) (r2 := N + 1) (n2 := k') (f2 := fb') hor hrw ((sH_out (by omega)).trans tO_0) ((sH_out (by omega)).trans tO_1) (by omega) (by omega)
        have c70a : (∀ i, i + 1 < n → f (i + 1) < f i) → ∀ env, zsub env [(3, .ref (b + 20 + m)), (4, .ref N), (5, .int (iI bm'))] → zW X Q (sH b u2 (tO N k' fb' g)) 2 7 70 env [.int (iI 0)] := by
          intro hdesc env he
          refine zW.cut he ?_
          have hall : bOf s o m n (fun _ => True) bm' bo' := hbo'.c fun c hc => ⟨fun _ => trivial, fun _ => hc.last hA hO hm hn hf hdesc⟩
          have hfin := hq u2 (tO N k' fb' g) bm' bo' k' fb' f hbr' hall hf ⟨e3, hSO2⟩ hkb' tO_ext (tO_top hTp)
          refine j_if_ne (tgt := 28) K dX2_optimize_70 rfl (by omega) (fun c_70 => ?_) (fun c_70 => ?_)
          · exact absurd rfl c_70
          · refine z_aload_n K dX2_optimize_73 rfl rfl rfl ?_
            refine z_aload K dX2_optimize_74 rfl rfl ?_
            refine z_callV K (htk) cV_X2_107_X3 (hor) rfl rfl rfl (by omega) (by omega) (by omega) (Nat.le_of_ble_eq_true rfl) dX2_optimize_76 zvX (zvK ?_)
            refine z_iload K dX2_optimize_79 rfl ?_
            exact z_iret K (by omega) (by omega) (hfin) dX2_optimize_81
        have c70b : ∀ f', isPm s m n f' → nxF f f' n → (∀ i, n ≤ i → f' i = f i) → ∀ env, zsub env [(0, .ref b), (2, .int (iI a)), (3, .ref (b + 20 + m)), (4, .ref N), (5, .int (iI bm'))] → zW X Q (zup (sH b u2 (tO N k' fb' g)) (b + 24 + m) (aI 5 f')) 2 7 70 env [.int (iI 1)] := by
          intro f' hf' hnx htl env he
          refine zW.cut he ?_
          have hfr' : ∀ i, i < n → 0 ≤ f' i ∧ f' i < 20 := fun i hi => by have := (hf'.1 i hi).1; omega
          have hv := vlF_lt n hfr hfr' hnx.lt
          have hv' := vlF_r n (by omega) hfr'
          have t5 : ∀ i, n ≤ i → i < 5 → f' i = s (183 + 5 * m + i) := fun i i1 i2 => by rw [htl i i1]; exact e2 i i1 i2
          have nx := ih (wRow u2 (sPut (u2 0) m 5 f')) f' (by omega) hf' (by rw [wRow_0, e3, sPut5b (by omega) (fun _ _ => rfl) t5]; exact sPut_2) t5 (hSO2.tr SO.row) bm' bo' fb' k' (hbo'.c fun c hc => (nxF.law hA hO hm hn hc hf hf' hnx).symm) hkb' hbr'
          rw [sH_rowF hm hJ2]
          refine j_if_ne (tgt := 28) K dX2_optimize_70 rfl (by omega) (fun c_70 => ?_) (fun c_70 => ?_)
          · exact nx _ ⟨rfl, rfl, rfl, rfl, rfl, trivial⟩
          · exact absurd c_70 (by omega)
        refine z_aload_n K dX2_optimize_66 rfl rfl rfl ?_
        refine z_callV K (hadv) cV_X2_213_X3 (hor) rfl rfl rfl (by omega) (by omega) (by omega) (Nat.le_of_ble_eq_true rfl) dX2_optimize_67 (fun _ _ e => by rcases e with ⟨e, _⟩ | ⟨_, e, _⟩ <;> cases e) ?_
        rintro _ _ (⟨ez, rfl, hdesc⟩ | ⟨f', ez, rfl, hf', hnx, htl⟩) <;> cases ez
        · exact c70a hdesc _ ⟨rfl, rfl, rfl, trivial⟩
        · exact c70b f' hf' hnx htl _ ⟨rfl, rfl, rfl, rfl, rfl, trivial⟩
      have hsc := x2_isScheduled (b := b) (u := u1) (g := tO N k fb g) (a := a) (bb := 500) ha hb (by omega) (by rw [hSO.2.1]; exact Or.inl h52) hA1 hO1 hB1 (by rw [hSO.2.1]; omega) (by rw [hSO.2.2.1]; exact h53)
      rw [ho, hSO.2.1, h52] at hsc
      have c33 : ∀ (u2 : tW) (rd st : Nat → Int), SK u1 u2 → SR (u1 0) o (-1) (u1 5 3) rd st u2 → Tp (u1 0) o (-1) (u1 5 3) rd st → Tq (u1 0) o st → (∀ i : Nat, (i : Int) < u1 0 1 → -1 ≤ st i ∧ st i ≤ 500 + 800) → ∀ env, zsub env [(0, .ref b), (2, .int (iI a)), (3, .ref (b + 20 + m)), (4, .ref N), (5, .int (iI bm))] → zW X Q (sH b u2 (tO N k fb g)) 2 7 33 env [.int (iI (bI (cntU st (u1 0 1).toNat = 0)))] := by
        intro u2 rd st hK2 hR2 hT2 hQ2 hB2 env he
        refine zW.cut he ?_
        obtain ⟨e3, -, -, -, e4, -⟩ := id hR2
        have hmk : MkR (sPut s m n f) o (mkS (u1 0) st) := by rw [← e1]; exact ⟨rd, st, hT2.hu0, hQ2, rfl⟩
        have hcr := cntU_r st (u1 0 1).toNat
        have e30 : u2 0 = sPut s m n f := by rw [e3, e1]
        have hSO2 := hSO.tr hK2.so
        have hor := sH_oN (b := b) (u := u2) (g := tO N k fb g) hm
        rw [onu u2 f e30] at hor
        have hrw := sH_rN (b := b) (u := u2) (g := tO N k fb g) hm
        rw [row u2 f e30 e2] at hrw
        by_cases hz : cntU st (u1 0 1).toNat = 0
        · have hv : mkS (u1 0) st = u2 5 0 := by unfold mkS; rw [if_neg (by omega), e4, gMx_all _ hz]
          have hvr : 0 ≤ u2 5 0 ∧ u2 5 0 ≤ 10000 := by
            rw [e4]
            refine ⟨gMx_0 _ _ _, gMx_le (by omega) _ fun i hi h0 => ?_⟩
            have h8 := hB2 i (by omega)
            have h7 := (hA1.2.1.2 i (by omega) (by omega)).2.2.1
            dsimp only [sDu] at h7
            omega
          rw [hv] at hmk
          have no := fun (h9 : 0 ≤ bm ∧ bm ≤ u2 5 0) => h66 u2 bm bo fb k e30 hSO2 (bOf.no hA hO hm hn hbo hf hmk (Or.inr h9)) hkb hbr
          have htk := x3_take (h := sH b u2 (tO N k fb g)) (o := N) (r := N + 1) (n := k) (f := fb) (o2 := b + 20 + m) (r2 := b + 24 + m) (n2 := n) (f2 := f) ((sH_out (by omega)).trans tO_0) ((sH_out (by omega)).trans tO_1) hor hrw (by omega) (by omega)
          rw [sH_upo (by omega), sH_upo (by omega), tO_put] at htk
          have yes := fun (h9 : bm < 0 ∨ u2 5 0 < bm) => h66 u2 (u2 5 0) f f n e30 hSO2 (bOf.yes hA hO hm hn hbo hf hmk hvr.1 h9 (fun _ _ => rfl)) (fun _ => ⟨rfl, fun _ _ => rfl, e2⟩) (by omega)
          refine j_if_eq (tgt := 66) K dX2_optimize_33 rfl (b01r _) (fun c_33 => ?_) (fun c_33 => ?_)
          · exact absurd (bI_eq.mp c_33) (fun q => q hz)
          · refine z_iload K dX2_optimize_36 rfl ?_
            refine j_iconst K dX2_optimize_38 ?_
            refine j_icmp_eq (tgt := 54) K dX2_optimize_39 rfl (by omega) (by omega) (fun c_39 => ?_) (fun c_39 => ?_)
            · refine z_aload_n K dX2_optimize_54 rfl rfl rfl ?_
              refine z_get K fd_X2_164_2 (sH_shop) rfl dX2_optimize_55 ?_
              refine z_istore K dX2_optimize_58 (by decide) rfl ?_
              refine z_aload K dX2_optimize_60 rfl rfl ?_
              refine z_aload_n K dX2_optimize_62 rfl rfl rfl ?_
              refine z_callV K (htk) cV_X2_107_X3 ((sH_out (by omega)).trans tO_0) rfl rfl rfl (by omega) (by omega) (by omega) (Nat.le_of_ble_eq_true rfl) dX2_optimize_63 zvX (zvK ?_)
              first | exact yes (by omega) _ ⟨rfl, rfl, rfl, rfl, rfl, trivial⟩ | exact no (by omega) _ ⟨rfl, rfl, rfl, rfl, rfl, trivial⟩
            · refine z_aload_n K dX2_optimize_42 rfl rfl rfl ?_
              refine z_get K fd_X2_164_2 (sH_shop) rfl dX2_optimize_43 ?_
              refine z_iload K dX2_optimize_46 rfl ?_
              refine j_icmp_lt (tgt := 54) K dX2_optimize_48 rfl (by omega) (by omega) (fun c_48 => ?_) (fun c_48 => ?_)
              · refine z_aload_n K dX2_optimize_54 rfl rfl rfl ?_
                refine z_get K fd_X2_164_2 (sH_shop) rfl dX2_optimize_55 ?_
                refine z_istore K dX2_optimize_58 (by decide) rfl ?_
                refine z_aload K dX2_optimize_60 rfl rfl ?_
                refine z_aload_n K dX2_optimize_62 rfl rfl rfl ?_
                refine z_callV K (htk) cV_X2_107_X3 ((sH_out (by omega)).trans tO_0) rfl rfl rfl (by omega) (by omega) (by omega) (Nat.le_of_ble_eq_true rfl) dX2_optimize_63 zvX (zvK ?_)
                first | exact yes (by omega) _ ⟨rfl, rfl, rfl, rfl, rfl, trivial⟩ | exact no (by omega) _ ⟨rfl, rfl, rfl, rfl, rfl, trivial⟩
              · refine z_goto (tgt := 66) K dX2_optimize_51 rfl ?_
                first | exact yes (by omega) _ ⟨rfl, rfl, rfl, rfl, rfl, trivial⟩ | exact no (by omega) _ ⟨rfl, rfl, rfl, rfl, rfl, trivial⟩
        · have hv : mkS (u1 0) st < 0 := by unfold mkS; rw [if_pos (by omega)]; decide
          have no := h66 u2 bm bo fb k e30 hSO2 (bOf.no hA hO hm hn hbo hf hmk (Or.inl hv)) hkb hbr
          refine j_if_eq (tgt := 66) K dX2_optimize_33 rfl (b01r _) (fun c_33 => ?_) (fun c_33 => ?_)
          · exact no _ ⟨rfl, rfl, rfl, rfl, rfl, trivial⟩
          · exact absurd (bI_ne.mp c_33) hz
      refine z_aload_n K dX2_optimize_28 rfl rfl rfl ?_
      refine z_iload_n K dX2_optimize_29 rfl rfl ?_
      refine z_callV K (hsc) cV_X2_182_X2 (sH_shop) rfl rfl rfl (by omega) (by omega) (by omega) (Nat.le_of_ble_eq_true rfl) dX2_optimize_30 (fun _ _ ⟨_, _, _, e, _⟩ => nomatch e) ?_
      rintro _ _ ⟨u2, rd, st, ez, rfl, hK2, hR2, hT2, hQ2, hB2⟩
      cases ez
      exact c33 u2 rd st hK2 hR2 hT2 hQ2 hB2 _ ⟨rfl, rfl, rfl, rfl, rfl, trivial⟩
  -- the beginning
  have hown := isPm.own hO hm hn
  have hor := sH_oN (b := b) (u := u) (g := tO N 0 (fun _ => 0) g) hm
  rw [hs, on] at hor
  have hrw := sH_rN (b := b) (u := u) (g := tO N 0 (fun _ => 0) g) hm
  rw [hs] at hrw
  have hsrt := x3_sort (h := sH b u (tO N 0 (fun _ => 0) g)) (P := isPm s m n) (n := n) hor hrw (by omega) (by omega) hown (fun f p h1 h2 => h1.ex h2) (fun f h1 p hp => by have := (h1.1 p hp).1; omega)
  have hnew := x3_newS (b := b) (u := u) (g := g) hTp hN hb
  have hgo := gt_ord (b := b) (u := u) (g := g) (m := m) (by omega)
  rw [Int.toNat_natCast] at hgo
  have hor0 := sH_oN (b := b) (u := u) (g := g) hm
  refine z_aload_n K dX2_optimize_0 rfl rfl rfl ?_
  refine z_get K fd_X2_28_2 (sH_shop) rfl dX2_optimize_1 ?_
  refine z_iload_n K dX2_optimize_4 rfl rfl ?_
  refine z_callV K (hgo) cV_X2_59_J2 (sH_ords) rfl rfl rfl (by omega) (by omega) (by omega) (Nat.le_of_ble_eq_true rfl) dX2_optimize_5 zrX (zrK ?_)
  refine z_castS K (hor0) rfl q246 dX2_optimize_8 ?_
  refine z_astore_n K dX2_optimize_11 rfl rfl (by decide) rfl ?_
  refine z_new K (N) nw_X2_51 ((sH_out (by omega)).trans (hTp N (Nat.le_refl N))) (by omega) (by omega) (by omega) dX2_optimize_12 ?_
  refine z_dup K dX2_optimize_15 rfl ?_
  refine z_cIN (fs := []) K (hnew) cI_X2_53 rfl rfl (by omega) (by omega) (by omega) (Nat.le_of_ble_eq_true rfl) dX2_optimize_16 zvX (zvK ?_)
  refine z_astore K dX2_optimize_19 rfl (by decide) rfl ?_
  refine j_iconst K dX2_optimize_21 ?_
  refine z_istore K dX2_optimize_22 (by decide) rfl ?_
  refine z_aload_n K dX2_optimize_24 rfl rfl rfl ?_
  refine z_callV K (hsrt) cV_X2_210_X3 (hor) rfl rfl rfl (by omega) (by omega) (by omega) (Nat.le_of_ble_eq_true rfl) dX2_optimize_25 (fun _ _ ⟨_, e, _⟩ => nomatch e) ?_
  rintro _ _ ⟨f', ez, rfl, hf', hasc, htl⟩
  cases ez
  rw [sH_rowF hm (by rw [hs]; exact hA.1)]
  have t5 : ∀ i, n ≤ i → i < 5 → f' i = s (183 + 5 * m + i) := fun i i1 i2 => htl i i1
  refine step ((3200000 - vlF f' n).toNat + 1) _ f' (by omega) hf' (by rw [wRow_0, hs]; exact sPut5 (by omega) (fun _ _ => rfl) t5) t5 SO.row (-1) (fun _ => 0) (fun _ => 0) 0 (Or.inl ⟨rfl, fun c hc hlt => absurd hlt (hc.least hA hO hm hn hf' (a := 0) (fun i j _ ij jn => hasc i j ij jn) (fun j hj => by omega))⟩) (fun h => by omega) (by omega) _ ⟨rfl, rfl, rfl, rfl, rfl, trivial⟩
theorem x2_optimize {a n : Nat} (hb : 1000 ≤ b) (hN : b + 72 ≤ N) (hTp : zTop g N) (ha : a < 16) (hm : m ≤ 3) (hA : WfA (u 0)) (hO : WfO (u 0)) (hB : BkOk b u g) (hn : sOn (u 0) m = n) (h52 : u 5 2 = -1) (h53 : 0 ≤ u 5 3 ∧ u 5 3 ≤ 3000) (hex : ∃ c, isPm (u 0) m n c ∧ ACy (sPut (u 0) m n c) (oB a)) :
    zMet yX2_optimize (ws_ yX2_optimize cX2_optimize 6 (some .int)) 7 [.ref b, .int (iI m), .int (iI a)] (sH b u g) (fun z h' => ∃ u' g' bm bo, z = .inl (some (.int (iI bm))) ∧ h' = sH b u' g' ∧ (0 ≤ bm ∧ bm ≤ 10000) ∧ bOf (u 0) (oB a) m n (fun _ => True) bm bo ∧ isPm (u 0) m n bo ∧ oW (u 0) m n bo u u' ∧ zExt N g g' ∧ zTop g' (N + 2)) 2 10 := by
  refine (x2_optG hb hN hTp ha hm hA hO hB hn h52 h53).weaken ?_
  rintro _ _ ⟨u', g', bm, bo, k, fb, f, rfl, rfl, hbr, hall, hf, ho, hk, hx, ht⟩
  have hn5 := (hO m (by omega) (by omega)).1
  rw [hn] at hn5
  obtain ⟨c0, hc0, hac⟩ := hex
  obtain ⟨hbm, hpm, -⟩ := hall.own hA hO hm hn hc0 hac
  obtain ⟨rfl, k2, k3⟩ := hk hbm
  obtain ⟨hA1, -⟩ := sPut_W hA hO hm hn hf
  have on : u 0 (179 + m) = n := by rw [← hn]; exact congrArg (u 0) (by omega)
  refine ⟨wRow u' (sPut (u' 0) m 5 fb), g', bm, bo, rfl, ?_, ⟨hbm, hbr.2⟩, hall, hpm, ⟨?_, ho.2.tr SO.row⟩, hx, ht⟩
  · rw [sH_rowF hm (by rw [ho.1]; exact hA1.1)]
    exact sH_oszN (by rw [wRow_0, sPut_lo (by omega), ho.1, sPut_lo (by omega)]; exact on) hm
  · rw [wRow_0, ho.1, sPut5b (by omega) k2 k3]
    exact sPut_2
end XOp

