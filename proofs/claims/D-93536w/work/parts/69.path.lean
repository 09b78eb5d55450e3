/-! ===== the component: what the schedule answers; the path ===== -/
/-- the cells of others are there -/
def Am (g : zH) : Prop := (∃ f, g 1 = some (aR 0 0 f)) ∧ (∃ c, g 7 = some c) ∧ ((∃ c, g 3 = some c) ∨ ∃ c, g 23 = some c) ∧ ((∃ c, g 4 = some c) ∨ ∃ c, g 24 = some c) ∧ ((∃ c, g 5 = some c) ∨ ∃ c, g 25 = some c) ∧ (∃ c, g 6 = some c) ∧ ∀ k, k < 256 → g (300 + k) = some (.inr (21, [.int (vb_c k)]))
/-- from N on all names are free -/
def zTop (g : zH) (N : Nat) : Prop := ∀ m, N ≤ m → g m = none
/-- below N nothing has changed -/
def zExt (N : Nat) (g g' : zH) : Prop := ∀ m, m < N → g' m = g m
theorem zExt.rf {N : Nat} {g : zH} : zExt N g g := fun _ _ => rfl
theorem zExt.tr {N M : Nat} {g g' g'' : zH} (h : zExt N g g') (k : zExt M g' g'') (e : N ≤ M) : zExt N g g'' := fun m hm => (k m (by omega)).trans (h m hm)
theorem Am.ext {N : Nat} {g g' : zH} (h : Am g) (e : zExt N g g') (hN : 1000 ≤ N) : Am g' := by
  obtain ⟨h1, h2, h3, h4, h5, h6, h7⟩ := h
  unfold Am
  rw [e 1 (by omega), e 7 (by omega), e 3 (by omega), e 23 (by omega), e 4 (by omega), e 24 (by omega), e 5 (by omega), e 25 (by omega), e 6 (by omega)]
  exact ⟨h1, h2, h3, h4, h5, h6, fun k hk => by rw [e (300 + k) (by omega)]; exact h7 k hk⟩
theorem BkOk.ext {b N : Nat} {u : tW} {g g' : zH} (h : BkOk b u g) (e : zExt N g g') (hN : zTop g N) : BkOk b u g' := by
  intro m i m0 m1 i0 i1
  obtain ⟨a1, a2, a3, a4⟩ := h m i m0 m1 i0 i1
  refine ⟨a1, a2, a3, ?_⟩
  have hlt : (u 8 (3 * m.toNat + i.toNat)).toNat < N := by
    rcases Nat.lt_or_ge (u 8 (3 * m.toNat + i.toNat)).toNat N with q | q
    · exact q
    · rw [hN _ q] at a4; cases a4
  rw [e _ hlt]
  exact a4
theorem lH_new {L : Nat} {f : Nat → Nat} {g : zH} (h : zTop g L) : zup g L (oL 0 1 0) = lH L 0 0 f g := by
  refine lH_e ?_ ?_ ?_ ?_ (fun m hm => ?_)
  · rw [zup_at]; rfl
  · rw [zup_ne (by omega), h _ (by omega), if_pos rfl]
  · rw [zup_ne (by omega), h _ (by omega), if_pos (by omega)]
  · rw [zup_ne (by omega), h _ (by omega), if_pos (by omega)]
  · rw [zup_ne (by omega)]
theorem lH_top {L : Nat} {c : Int} {n : Nat} {f : Nat → Nat} {g : zH} (h : zTop g L) : zTop (lH L c n f g) (L + 4) := fun m hm => by rw [lH_o (by omega)]; exact h m (by omega)
theorem lH_ext {L : Nat} {c : Int} {n : Nat} {f : Nat → Nat} {g : zH} : zExt L g (lH L c n f g) := fun m hm => lH_o (by omega)
section XPa
variable {b : Nat} {u : tW} {g : zH} {L : Nat} {c : Int} {n : Nat} {f : Nat → Nat}
theorem jl_addS {x : Nat} (hA : Am g) (hb : b + 72 ≤ L) (h8 : 1000 ≤ b) (hn : n < 22) (hx : zOb (sH b u (lH L c n f g)) x) (he : ∀ i, i < n → zOb (sH b u (lH L c n f g)) (f i)) : zMet yJ2_add (ws_ yJ2_add cJ2_add 2 (some .boolean)) 7 [.ref L, .ref x] (sH b u (lH L c n f g)) (zRet (.int (iI 1)) (sH b u (lH L (c + 1) (n + 1) (fun i => if i = n then x else f i) g))) 1 22 := by
  obtain ⟨⟨f1, h1⟩, ⟨c7, h7⟩, -⟩ := hA
  rw [sH_lH (Or.inr hb)] at hx he ⊢
  rw [sH_lH (Or.inr hb)]
  exact jl_addL (by omega) hn (by rw [sH_out (by omega)]; exact h1) (by rw [sH_out (by omega)]; exact h7) hx he
theorem jl_getS {i : Int} (hb : b + 72 ≤ L) (hi : 0 ≤ i ∧ i < (n : Int)) (h22 : n ≤ 22) : zG2 L i (sH b u (lH L c n f g)) (f i.toNat) := by
  rw [sH_lH (Or.inr hb)]
  exact jl_getL hi h22
theorem jl_sizeS (hb : b + 72 ≤ L) : zMet yJ2_size (ws_ yJ2_size cJ2_size 1 (some .int)) 1 [.ref L] (sH b u (lH L c n f g)) (zRet (.int (iI n)) (sH b u (lH L c n f g))) 0 0 := by
  rw [sH_lH (Or.inr hb)]
  exact jl_sizeL
theorem sH_l0 (hb : b + 72 ≤ L) : sH b u (lH L c n f g) L = some (oL c (lA L n) n) := (sH_out (by omega)).trans lH_0
theorem zOb_op {k : Int} (hk : 0 ≤ k ∧ k < u 0 1) (h20 : u 0 1 ≤ 20) : zOb (sH b u g) (b + 52 + k.toNat) := Or.inl ⟨_, _, _, sH_op hk h20, rfl, q2299⟩
theorem jl_newS (hA : Am g) (hT : zTop g L) (hb : b + 72 ≤ L) (h8 : 1000 ≤ b) : zMet yJ2_init (ws_ yJ2_init cJ2_init 1 none) 4 [.ref L] (zup (sH b u g) L (.inr (18, [.int 0, .null, .int 0]))) (zVd (sH b u (lH L 0 0 f g))) 0 0 := by
  obtain ⟨⟨f1, h1⟩, -⟩ := hA
  have h9 := jl_init (h := zup (sH b u g) L (.inr (18, [.int 0, .null, .int 0]))) (L := L) (c1 := aR 0 0 f1) (zup_at _ _ _) (by rw [zup_ne (by omega), sH_out (by omega)]; exact h1) (by omega)
  rw [zup_zup, sH_upo (c := oL 0 1 0) (by omega), lH_new (f := f) hT] at h9
  exact h9
/-- a whole schedule stands in the world -/
def SF (u : tW) (o rd st : Nat → Int) : Prop := ∀ k : Int, 0 ≤ k → k < u 0 1 → u 1 k.toNat = sAh (u 0) o k ∧ u 2 k.toNat = rd k.toNat ∧ u 3 k.toNat = st k.toNat ∧ u 4 k.toNat = st k.toNat + sDu (u 0) k ∧ 0 ≤ st k.toNat ∧ st k.toNat ≤ 4000
theorem SR.sf {s o rd st : Nat → Int} {hd hu bb : Int} {u : tW} (h : SR s o hd hu rd st u) (h0 : cntU st (s 1).toNat = 0) (hb : ∀ i : Nat, (i : Int) < s 1 → -1 ≤ st i ∧ st i ≤ bb + 800) (hbb : bb ≤ 3200) : SF u o rd st := by
  obtain ⟨rfl, h1, h2, -⟩ := h
  intro k k0 k1
  have z := cntU_0.mp h0 k.toNat (by omega)
  have y := h2 k.toNat (by omega) z
  have x := hb k.toNat (by omega)
  rw [show ((k.toNat : Nat) : Int) = k by omega] at y
  exact ⟨h1 k k0 k1, y.1, y.2.1, y.2.2, z, by omega⟩
theorem x2_canAdd {j m : Int} (hA : WfA (u 0)) (hj : 0 ≤ j ∧ j < u 0 0) (hm : -2147483648 ≤ m ∧ m ≤ 2147483647) : zMet yX2_canAdd (ws_ yX2_canAdd cX2_canAdd 3 (some .boolean)) 5 [.ref b, .int (iI j), .int (iI m)] (sH b u g) (zRet (.int (iI (bP (u 0 (17 + j).toNat ≠ 4 ∧ ¬ hasM (u 0) j m (u 0 (17 + j).toNat).toNat)))) (sH b u g)) 0 0 := by
  have h20 := hA.2.1.1
  have h05 := hA.1.1
  have hl := (hA.1.2 j hj.1 hj.2).2.2.2
  have hv := x5_visits (b := b) (u := u) (g := g) hA hj hm
  refine zMet.of (by decide) (Nat.le_of_ble_eq_true rfl) fun X K => ?_
  (try dsimp only [sRel, sDue, sWt, sLen, sSeq, sJb, sMc, sDu, sFa, sIx, sSu, sBn, sBf, sBl, sOn, sOr] at *)
  refine z_aload_n K dX2_canAdd_0 rfl rfl rfl ?_
  refine z_get K fd_X2_12_2 (sH_shop) rfl dX2_canAdd_1 ?_
  refine z_iload_n K dX2_canAdd_4 rfl rfl ?_
  refine z_callV K (gt_jobs ⟨by omega, by omega⟩ (by omega)) cV_X2_59_J2 (sH_jobs) rfl rfl rfl (by omega) (by omega) (by omega) (Nat.le_of_ble_eq_true rfl) dX2_canAdd_5 zrX (zrK ?_)
  refine z_castS K (sH_job ⟨by omega, by omega⟩ (by omega)) rfl q417 dX2_canAdd_8 ?_
  refine z_get K fd_X2_111_4 (sH_job ⟨by omega, by omega⟩ (by omega)) rfl dX2_canAdd_11 ?_
  refine z_callV K (jl_size (sH_jbL ⟨by omega, by omega⟩ (by omega))) cV_X2_55_J2 (sH_jbL ⟨by omega, by omega⟩ (by omega)) rfl rfl rfl (by omega) (by omega) (by omega) (Nat.le_of_ble_eq_true rfl) dX2_canAdd_14 zrX (zrK ?_)
  refine j_iconst K dX2_canAdd_17 ?_
  refine j_icmp_ge (tgt := 43) K dX2_canAdd_18 rfl (by omega) (by omega) (fun c_18 => ?_) (fun c_18 => ?_)
  · refine j_iconst K dX2_canAdd_43 ?_
    exact z_zret K (iI_b (by omega)) (by omega) (by omega) (⟨by first | rw [show bP (u 0 (17 + j).toNat ≠ 4 ∧ ¬ hasM (u 0) j m (u 0 (17 + j).toNat).toNat) = 1 from bP_t ⟨by omega, bP_eq.mp c_36⟩] | rw [show bP (u 0 (17 + j).toNat ≠ 4 ∧ ¬ hasM (u 0) j m (u 0 (17 + j).toNat).toNat) = 0 from bP_f (fun q => q.2 (bP_ne.mp c_36))] | rw [show bP (u 0 (17 + j).toNat ≠ 4 ∧ ¬ hasM (u 0) j m (u 0 (17 + j).toNat).toNat) = 0 from bP_f (fun q => q.1 (by omega))], rfl⟩) dX2_canAdd_44
  · refine z_aload_n K dX2_canAdd_21 rfl rfl rfl ?_
    refine z_get K fd_X2_12_2 (sH_shop) rfl dX2_canAdd_22 ?_
    refine z_iload_n K dX2_canAdd_25 rfl rfl ?_
    refine z_callV K (gt_jobs ⟨by omega, by omega⟩ (by omega)) cV_X2_59_J2 (sH_jobs) rfl rfl rfl (by omega) (by omega) (by omega) (Nat.le_of_ble_eq_true rfl) dX2_canAdd_26 zrX (zrK ?_)
    refine z_castS K (sH_job ⟨by omega, by omega⟩ (by omega)) rfl q417 dX2_canAdd_29 ?_
    refine z_iload_n K dX2_canAdd_32 rfl rfl ?_
    refine z_callV K (hv) cV_X2_121_X5 (sH_job ⟨by omega, by omega⟩ (by omega)) rfl rfl rfl (by omega) (by omega) (by omega) (Nat.le_of_ble_eq_true rfl) dX2_canAdd_33 zrX (zrK ?_)
    refine j_if_ne (tgt := 43) K dX2_canAdd_36 rfl (bP_r _) (fun c_36 => ?_) (fun c_36 => ?_)
    · refine j_iconst K dX2_canAdd_43 ?_
      exact z_zret K (iI_b (by omega)) (by omega) (by omega) (⟨by first | rw [show bP (u 0 (17 + j).toNat ≠ 4 ∧ ¬ hasM (u 0) j m (u 0 (17 + j).toNat).toNat) = 1 from bP_t ⟨by omega, bP_eq.mp c_36⟩] | rw [show bP (u 0 (17 + j).toNat ≠ 4 ∧ ¬ hasM (u 0) j m (u 0 (17 + j).toNat).toNat) = 0 from bP_f (fun q => q.2 (bP_ne.mp c_36))] | rw [show bP (u 0 (17 + j).toNat ≠ 4 ∧ ¬ hasM (u 0) j m (u 0 (17 + j).toNat).toNat) = 0 from bP_f (fun q => q.1 (by omega))], rfl⟩) dX2_canAdd_44
    · refine j_iconst K dX2_canAdd_39 ?_
      refine z_goto (tgt := 44) K dX2_canAdd_40 rfl ?_
      exact z_zret K (iI_b (by omega)) (by omega) (by omega) (⟨by first | rw [show bP (u 0 (17 + j).toNat ≠ 4 ∧ ¬ hasM (u 0) j m (u 0 (17 + j).toNat).toNat) = 1 from bP_t ⟨by omega, bP_eq.mp c_36⟩] | rw [show bP (u 0 (17 + j).toNat ≠ 4 ∧ ¬ hasM (u 0) j m (u 0 (17 + j).toNat).toNat) = 0 from bP_f (fun q => q.2 (bP_ne.mp c_36))] | rw [show bP (u 0 (17 + j).toNat ≠ 4 ∧ ¬ hasM (u 0) j m (u 0 (17 + j).toNat).toNat) = 0 from bP_f (fun q => q.1 (by omega))], rfl⟩) dX2_canAdd_44
theorem x2_completion {j : Int} {o rd st : Nat → Int} (hA : WfA (u 0)) (hS : SF u o rd st) (hj : 0 ≤ j ∧ j < u 0 0) : zMet yX2_completion (ws_ yX2_completion cX2_completion 3 (some .int)) 4 [.ref b, .int (iI j)] (sH b u g) (zRet (.int (iI (sCo (u 0) st j))) (sH b u g)) 0 0 := by
  have h20 := hA.2.1.1
  have h05 := hA.1.1
  have hl := (hA.1.2 j hj.1 hj.2).2.2.2
  have hs := fun h0 => hA.2.2.1 j (sLen (u 0) j - 1) hj.1 hj.2 h0 (by omega)
  unfold sCo
  refine zMet.of (by decide) (Nat.le_of_ble_eq_true rfl) fun X K => ?_
  by_cases hz : sLen (u 0) j = 0
  · rw [if_pos hz]
    (try dsimp only [sRel, sDue, sWt, sLen, sSeq, sJb, sMc, sDu, sFa, sIx, sSu, sBn, sBf, sBl, sOn, sOr] at *)
    refine z_aload_n K dX2_completion_0 rfl rfl rfl ?_
    refine z_get K fd_X2_12_2 (sH_shop) rfl dX2_completion_1 ?_
    refine z_iload_n K dX2_completion_4 rfl rfl ?_
    refine z_callV K (gt_jobs ⟨by omega, by omega⟩ (by omega)) cV_X2_59_J2 (sH_jobs) rfl rfl rfl (by omega) (by omega) (by omega) (Nat.le_of_ble_eq_true rfl) dX2_completion_5 zrX (zrK ?_)
    refine z_castS K (sH_job ⟨by omega, by omega⟩ (by omega)) rfl q417 dX2_completion_8 ?_
    refine z_get K fd_X2_111_4 (sH_job ⟨by omega, by omega⟩ (by omega)) rfl dX2_completion_11 ?_
    refine z_astore_n K dX2_completion_14 rfl rfl (by decide) rfl ?_
    refine z_aload_n K dX2_completion_15 rfl rfl rfl ?_
    refine z_callV K (jl_isEmpty (sH_jbL ⟨by omega, by omega⟩ (by omega)) (by omega)) cV_X2_199_J2 (sH_jbL ⟨by omega, by omega⟩ (by omega)) rfl rfl rfl (by omega) (by omega) (by omega) (Nat.le_of_ble_eq_true rfl) dX2_completion_16 zrX (zrK ?_)
    refine j_if_eq (tgt := 39) K dX2_completion_19 rfl (b01r _) (fun c_19 => ?_) (fun c_19 => ?_)
    · exact absurd (bI_eq.mp c_19) (fun q => q hz)
    · refine z_aload_n K dX2_completion_22 rfl rfl rfl ?_
      refine z_get K fd_X2_12_2 (sH_shop) rfl dX2_completion_23 ?_
      refine z_iload_n K dX2_completion_26 rfl rfl ?_
      refine z_callV K (gt_jobs ⟨by omega, by omega⟩ (by omega)) cV_X2_59_J2 (sH_jobs) rfl rfl rfl (by omega) (by omega) (by omega) (Nat.le_of_ble_eq_true rfl) dX2_completion_27 zrX (zrK ?_)
      refine z_castS K (sH_job ⟨by omega, by omega⟩ (by omega)) rfl q417 dX2_completion_30 ?_
      refine z_callV K (x5_release ⟨by omega, by omega⟩ (by omega)) cV_X2_65_X5 (sH_job ⟨by omega, by omega⟩ (by omega)) rfl rfl rfl (by omega) (by omega) (by omega) (Nat.le_of_ble_eq_true rfl) dX2_completion_33 zrX (zrK ?_)
      refine z_goto (tgt := 60) K dX2_completion_36 rfl ?_
      exact z_iret K (by omega) (by omega) (⟨rfl, rfl⟩) dX2_completion_60
  · rw [if_neg hz]
    obtain ⟨hs1, hs2, hs3⟩ := hs (by omega)
    have he := (hS _ hs1.1 hs1.2).2.2.2.1
    (try dsimp only [sRel, sDue, sWt, sLen, sSeq, sJb, sMc, sDu, sFa, sIx, sSu, sBn, sBf, sBl, sOn, sOr] at *)
    refine z_aload_n K dX2_completion_0 rfl rfl rfl ?_
    refine z_get K fd_X2_12_2 (sH_shop) rfl dX2_completion_1 ?_
    refine z_iload_n K dX2_completion_4 rfl rfl ?_
    refine z_callV K (gt_jobs ⟨by omega, by omega⟩ (by omega)) cV_X2_59_J2 (sH_jobs) rfl rfl rfl (by omega) (by omega) (by omega) (Nat.le_of_ble_eq_true rfl) dX2_completion_5 zrX (zrK ?_)
    refine z_castS K (sH_job ⟨by omega, by omega⟩ (by omega)) rfl q417 dX2_completion_8 ?_
    refine z_get K fd_X2_111_4 (sH_job ⟨by omega, by omega⟩ (by omega)) rfl dX2_completion_11 ?_
    refine z_astore_n K dX2_completion_14 rfl rfl (by decide) rfl ?_
    refine z_aload_n K dX2_completion_15 rfl rfl rfl ?_
    refine z_callV K (jl_isEmpty (sH_jbL ⟨by omega, by omega⟩ (by omega)) (by omega)) cV_X2_199_J2 (sH_jbL ⟨by omega, by omega⟩ (by omega)) rfl rfl rfl (by omega) (by omega) (by omega) (Nat.le_of_ble_eq_true rfl) dX2_completion_16 zrX (zrK ?_)
    refine j_if_eq (tgt := 39) K dX2_completion_19 rfl (b01r _) (fun c_19 => ?_) (fun c_19 => ?_)
    · refine z_aload_n K dX2_completion_39 rfl rfl rfl ?_
      refine z_get K fd_X2_40_2 (sH_shop) rfl dX2_completion_40 ?_
      refine z_aload_n K dX2_completion_43 rfl rfl rfl ?_
      refine z_aload_n K dX2_completion_44 rfl rfl rfl ?_
      refine z_callV K (jl_size (sH_jbL ⟨by omega, by omega⟩ (by omega))) cV_X2_55_J2 (sH_jbL ⟨by omega, by omega⟩ (by omega)) rfl rfl rfl (by omega) (by omega) (by omega) (Nat.le_of_ble_eq_true rfl) dX2_completion_45 zrX (zrK ?_)
      refine j_iconst K dX2_completion_48 ?_
      refine j_isub K dX2_completion_49 ?_
      refine z_callV K (gt_jop ⟨by omega, by omega⟩ (by omega) ⟨by omega, by omega⟩ (by omega)) cV_X2_59_J2 (sH_jbL ⟨by omega, by omega⟩ (by omega)) rfl rfl rfl (by omega) (by omega) (by omega) (Nat.le_of_ble_eq_true rfl) dX2_completion_50 zrX (zrK ?_)
      refine z_castS K (sH_op ⟨by omega, by omega⟩ (by omega)) rfl q408 dX2_completion_53 ?_
      refine z_get K fd_X2_115_5 (sH_op ⟨by omega, by omega⟩ (by omega)) rfl dX2_completion_56 ?_
      refine j_ild K (sH_31) (by omega) (by omega) dX2_completion_59 ?_
      rw [he]
      exact z_iret K (by omega) (by omega) (⟨rfl, rfl⟩) dX2_completion_60
    · exact absurd (bI_ne.mp c_19) hz
theorem sCo_f {o rd st : Nat → Int} {j : Int} (hA : WfA (u 0)) (hS : SF u o rd st) (hj : 0 ≤ j ∧ j < u 0 0) : 0 ≤ sCo (u 0) st j ∧ sCo (u 0) st j ≤ 4030 := by
  have hl := (hA.1.2 j hj.1 hj.2)
  unfold sCo
  by_cases hz : sLen (u 0) j = 0
  · rw [if_pos hz]; omega
  · rw [if_neg hz]
    obtain ⟨hs1, hs2, hs3⟩ := hA.2.2.1 j (sLen (u 0) j - 1) hj.1 hj.2 (by omega) (by omega)
    have he := (hS _ hs1.1 hs1.2).2.2.2.2
    have hd := (hA.2.1.2 _ hs1.1 hs1.2).2.2.1
    omega
theorem x2_tardiness {j : Int} {o rd st : Nat → Int} (hA : WfA (u 0)) (hS : SF u o rd st) (hj : 0 ≤ j ∧ j < u 0 0) : zMet yX2_tardiness (ws_ yX2_tardiness cX2_tardiness 2 (some .int)) 5 [.ref b, .int (iI j)] (sH b u g) (zRet (.int (iI (max 0 (sCo (u 0) st j - sDue (u 0) j)))) (sH b u g)) 0 0 := by
  have h20 := hA.2.1.1
  have h05 := hA.1.1
  have hl := (hA.1.2 j hj.1 hj.2)
  have hc := sCo_f hA hS hj
  refine zMet.of (by decide) (Nat.le_of_ble_eq_true rfl) fun X K => ?_
  (try dsimp only [sRel, sDue, sWt, sLen, sSeq, sJb, sMc, sDu, sFa, sIx, sSu, sBn, sBf, sBl, sOn, sOr] at *)
  refine j_iconst K dX2_tardiness_0 ?_
  refine z_aload_n K dX2_tardiness_1 rfl rfl rfl ?_
  refine z_iload_n K dX2_tardiness_2 rfl rfl ?_
  refine z_callV K (x2_completion hA hS ⟨by omega, by omega⟩) cV_X2_203_X2 (sH_shop) rfl rfl rfl (by omega) (by omega) (by omega) (Nat.le_of_ble_eq_true rfl) dX2_tardiness_3 zrX (zrK ?_)
  refine z_aload_n K dX2_tardiness_6 rfl rfl rfl ?_
  refine z_get K fd_X2_12_2 (sH_shop) rfl dX2_tardiness_7 ?_
  refine z_iload_n K dX2_tardiness_10 rfl rfl ?_
  refine z_callV K (gt_jobs ⟨by omega, by omega⟩ (by omega)) cV_X2_59_J2 (sH_jobs) rfl rfl rfl (by omega) (by omega) (by omega) (Nat.le_of_ble_eq_true rfl) dX2_tardiness_11 zrX (zrK ?_)
  refine z_castS K (sH_job ⟨by omega, by omega⟩ (by omega)) rfl q417 dX2_tardiness_14 ?_
  refine z_callV K (x5_due ⟨by omega, by omega⟩ (by omega)) cV_X2_68_X5 (sH_job ⟨by omega, by omega⟩ (by omega)) rfl rfl rfl (by omega) (by omega) (by omega) (Nat.le_of_ble_eq_true rfl) dX2_tardiness_17 zrX (zrK ?_)
  refine j_isub K dX2_tardiness_20 ?_
  refine z_callS K ((s_max (by omega) (by omega)).r) cS_X2_147 rfl rfl (by omega) (by omega) (by omega) (Nat.le_of_ble_eq_true rfl) dX2_tardiness_21 zrX (zrK ?_)
  exact z_iret K (by omega) (by omega) (⟨rfl, rfl⟩) dX2_tardiness_24
theorem x2_allSetups (hA : WfA (u 0)) (hO : WfO (u 0)) : zMet yX2_allSetups (ws_ yX2_allSetups cX2_allSetups 5 (some .int)) 4 [.ref b] (sH b u g) (zRet (.int (iI (suA (u 0) 4))) (sH b u g)) 0 0 := by
  have h20 := hA.2.1.1
  refine zMet.of (by decide) (Nat.le_of_ble_eq_true rfl) fun X K => ?_
  have lm : ∀ (r m : Nat), m + r = 4 → ∀ env, zsub env [(0, .ref b), (1, .int (iI (suA (u 0) m))), (2, .int (iI m))] → zW X (zRet (.int (iI (suA (u 0) 4))) (sH b u g)) (sH b u g) 0 0 4 env [] := by
    intro r
    induction r with
    | zero =>
      intro m hm env he
      refine zW.cut he ?_
      obtain rfl : m = 4 := by omega
      refine z_iload_n K dX2_allSetups_4 rfl rfl ?_
      refine j_iconst K dX2_allSetups_5 ?_
      refine j_icmp_ge (tgt := 88) K dX2_allSetups_6 rfl (by omega) (by omega) (fun c_6 => ?_) (fun c_6 => ?_)
      · refine z_iload_n K dX2_allSetups_88 rfl rfl ?_
        exact z_iret K (by omega) (by omega) (⟨rfl, rfl⟩) dX2_allSetups_89
      · exact absurd c_6 (by omega)
    | succ r ih =>
      intro m hm env he
      refine zW.cut he ?_
      obtain ⟨o1, o2, -, -⟩ := hO m (by omega) (by omega)
      have lp : ∀ (q p : Nat), 1 ≤ p → (p : Int) + q = max 1 (sOn (u 0) m) → ∀ env, zsub env [(0, .ref b), (1, .int (iI (suA (u 0) m + suM (u 0) m p))), (2, .int (iI m)), (3, .ref (b + 20 + ((m : Nat) : Int).toNat)), (4, .int (iI p))] → zW X (zRet (.int (iI (suA (u 0) 4))) (sH b u g)) (sH b u g) 0 0 24 env [] := by
        intro q
        induction q with
        | zero =>
          intro p hp hq env he
          refine zW.cut he ?_
          have hfin : suA (u 0) m + suM (u 0) m p = suA (u 0) (m + 1) := by
            show _ = suA (u 0) m + suM (u 0) m (sOn (u 0) m).toNat
            rcases (by omega : p = (sOn (u 0) m).toNat ∨ (p = 1 ∧ (sOn (u 0) m).toNat = 0)) with z | ⟨z1, z2⟩
            · rw [← z]
            · rw [z1, z2]; rfl
          rw [hfin]
          (try dsimp only [sRel, sDue, sWt, sLen, sSeq, sJb, sMc, sDu, sFa, sIx, sSu, sBn, sBf, sBl, sOn, sOr] at *)
          refine z_iload K dX2_allSetups_24 rfl ?_
          refine z_aload_n K dX2_allSetups_26 rfl rfl rfl ?_
          refine z_get K fd_X2_167_3 (sH_ord ⟨by omega, by omega⟩) rfl dX2_allSetups_27 ?_
          refine j_icmp_ge (tgt := 82) K dX2_allSetups_30 rfl (by omega) (by omega) (fun c_30 => ?_) (fun c_30 => ?_)
          · refine j_iinc K dX2_allSetups_82 rfl (by decide) rfl ?_
            refine z_goto (tgt := 4) K dX2_allSetups_85 rfl ?_
            exact ih (m + 1) (by omega) _ ⟨rfl, rfl, rfl, trivial⟩
          · exact absurd c_30 (by omega)
        | succ q ihq =>
          intro p hp hq env he
          refine zW.cut he ?_
          obtain ⟨p', rfl⟩ : ∃ p', p = p' + 1 := ⟨p - 1, by omega⟩
          have q1 := (o2 (p' + 1 : Nat) (by omega) (by omega)).1
          have q3 := (o2 p' (by omega) (by omega)).1
          have hsu := x2_setup (b := b) (u := u) (g := g) hA q3 q1
          have nx := ihq (p' + 2) (by omega) (by omega)
          have e1 : suM (u 0) m (p' + 2) = suM (u 0) m (p' + 1) + sSu (u 0) (sOr (u 0) m p') (sOr (u 0) m ((p' + 1 : Nat) : Int)) := rfl
          rw [e1, ← Int.add_assoc] at nx
          (try dsimp only [sRel, sDue, sWt, sLen, sSeq, sJb, sMc, sDu, sFa, sIx, sSu, sBn, sBf, sBl, sOn, sOr] at *)
          refine z_iload K dX2_allSetups_24 rfl ?_
          refine z_aload_n K dX2_allSetups_26 rfl rfl rfl ?_
          refine z_get K fd_X2_167_3 (sH_ord ⟨by omega, by omega⟩) rfl dX2_allSetups_27 ?_
          refine j_icmp_ge (tgt := 82) K dX2_allSetups_30 rfl (by omega) (by omega) (fun c_30 => ?_) (fun c_30 => ?_)
          · exact absurd c_30 (by omega)
          · refine z_iload_n K dX2_allSetups_33 rfl rfl ?_
            refine z_aload_n K dX2_allSetups_34 rfl rfl rfl ?_
            refine z_aload_n K dX2_allSetups_35 rfl rfl rfl ?_
            refine z_get K fd_X2_18_2 (sH_shop) rfl dX2_allSetups_36 ?_
            refine z_aload_n K dX2_allSetups_39 rfl rfl rfl ?_
            refine z_get K fd_X2_169_3 (sH_ord ⟨by omega, by omega⟩) rfl dX2_allSetups_40 ?_
            refine z_iload K dX2_allSetups_43 rfl ?_
            refine j_iconst K dX2_allSetups_45 ?_
            refine j_isub K dX2_allSetups_46 ?_
            refine s_ldrow K (⟨by omega, by omega⟩) (by omega) (by omega) dX2_allSetups_47 ?_
            rw [show 183 + 5 * (m : Int) + (((p' + 1 : Nat) : Int) - 1) = 183 + 5 * (m : Int) + (p' : Int) by omega]
            refine z_callV K (gt_ops ⟨by omega, by omega⟩ (by omega)) cV_X2_59_J2 (sH_ops) rfl rfl rfl (by omega) (by omega) (by omega) (Nat.le_of_ble_eq_true rfl) dX2_allSetups_48 zrX (zrK ?_)
            refine z_castS K (sH_op ⟨by omega, by omega⟩ (by omega)) rfl q408 dX2_allSetups_51 ?_
            refine z_aload_n K dX2_allSetups_54 rfl rfl rfl ?_
            refine z_get K fd_X2_18_2 (sH_shop) rfl dX2_allSetups_55 ?_
            refine z_aload_n K dX2_allSetups_58 rfl rfl rfl ?_
            refine z_get K fd_X2_169_3 (sH_ord ⟨by omega, by omega⟩) rfl dX2_allSetups_59 ?_
            refine z_iload K dX2_allSetups_62 rfl ?_
            refine s_ldrow K (⟨by omega, by omega⟩) (by omega) (by omega) dX2_allSetups_64 ?_
            refine z_callV K (gt_ops ⟨by omega, by omega⟩ (by omega)) cV_X2_59_J2 (sH_ops) rfl rfl rfl (by omega) (by omega) (by omega) (Nat.le_of_ble_eq_true rfl) dX2_allSetups_65 zrX (zrK ?_)
            refine z_castS K (sH_op ⟨by omega, by omega⟩ (by omega)) rfl q408 dX2_allSetups_68 ?_
            refine z_callV K (hsu) cV_X2_153_X2 (sH_shop) rfl rfl rfl (by omega) (by omega) (by omega) (Nat.le_of_ble_eq_true rfl) dX2_allSetups_71 zrX (zrK ?_)
            refine j_iadd K dX2_allSetups_74 ?_
            refine z_istore_n K dX2_allSetups_75 rfl (by decide) rfl ?_
            refine j_iinc K dX2_allSetups_76 rfl (by decide) rfl ?_
            refine z_goto (tgt := 24) K dX2_allSetups_79 rfl ?_
            exact nx _ ⟨rfl, rfl, rfl, rfl, rfl, trivial⟩
      have st := lp (max 1 (sOn (u 0) m) - 1).toNat 1 (by omega) (by omega)
      rw [show suM (u 0) m 1 = 0 from rfl, Int.add_zero] at st
      refine z_iload_n K dX2_allSetups_4 rfl rfl ?_
      refine j_iconst K dX2_allSetups_5 ?_
      refine j_icmp_ge (tgt := 88) K dX2_allSetups_6 rfl (by omega) (by omega) (fun c_6 => ?_) (fun c_6 => ?_)
      · exact absurd c_6 (by omega)
      · refine z_aload_n K dX2_allSetups_9 rfl rfl rfl ?_
        refine z_get K fd_X2_28_2 (sH_shop) rfl dX2_allSetups_10 ?_
        refine z_iload_n K dX2_allSetups_13 rfl rfl ?_
        refine z_callV K (gt_ord ⟨by omega, by omega⟩) cV_X2_59_J2 (sH_ords) rfl rfl rfl (by omega) (by omega) (by omega) (Nat.le_of_ble_eq_true rfl) dX2_allSetups_14 zrX (zrK ?_)
        refine z_castS K (sH_ord ⟨by omega, by omega⟩) rfl q246 dX2_allSetups_17 ?_
        refine z_astore_n K dX2_allSetups_20 rfl rfl (by decide) rfl ?_
        refine j_iconst K dX2_allSetups_21 ?_
        refine z_istore K dX2_allSetups_22 (by decide) rfl ?_
        exact st _ ⟨rfl, rfl, rfl, rfl, rfl, trivial⟩
  refine j_iconst K dX2_allSetups_0 ?_
  refine z_istore_n K dX2_allSetups_1 rfl (by decide) rfl ?_
  refine j_iconst K dX2_allSetups_2 ?_
  refine z_istore_n K dX2_allSetups_3 rfl (by decide) rfl ?_
  exact lm 4 0 (by omega) _ ⟨rfl, rfl, rfl, trivial⟩
end XPa

