/-! ===== the component: the dispatcher runs ===== -/
section XRn
variable {b D : Nat} {u : tW} {g : zH} {rl ea : Int}
theorem tsAdd {v : tW} {k : Int} : tset (tset v 0 (183 + 5 * sMc (v 0) k + sOn (v 0) (sMc (v 0) k)).toNat k) 0 (179 + sMc (v 0) k).toNat (sOn (v 0) (sMc (v 0) k) + 1) 0 = sAdd (v 0) k := by
  unfold sAdd
  rw [tsP, tsP]
theorem opV_r {c : Int} : zisr (opV b c) = true := by unfold opV; split <;> rfl
theorem x10_loop {X : zX} {Q : zO → zH → Prop} (K : zK yX10_run cX10_run 2 none [] 8 0 0 X) {R : (Nat → Int) × (Nat → Int) × (Nat → Int)} (hb : 1000 ≤ b) (hD : b + 72 ≤ D) (hB : BkOk b u g) (hA : WfA (u 0)) (hTp : zTop g D) (hr : 0 ≤ rl ∧ rl ≤ 3) (hea : 0 ≤ ea ∧ ea ≤ 999)
    (hq : ∀ v : tW, (∀ f, f ≠ 0 → v f = u f) → v 0 = R.1 → Q (.inl none) (sH b v (dp D b rl ea R.2.2 R.2.1 g))) :
    ∀ (n : Nat) (v : tW) (gx fx : Nat → Int), (∀ f, f ≠ 0 → v f = u f) → (∀ i, i < 179 → v 0 i = u 0 i) → BI (v 0) gx fx → rem (v 0) gx (v 0 0).toNat ≤ n → bld rl ea (n + 1) (v 0) gx fx = R → ∀ env, zsub env [(0, .ref D), (1, opV b (chs (v 0) gx fx rl ea (v 0 0).toNat).1)] → zW X Q (sH b v (dp D b rl ea fx gx g)) 0 0 13 env [] := by
  intro n
  induction n with
  | zero =>
    intro v gx fx hv h9 hI hre hR env he
    refine zW.cut he ?_
    have h05 := hI.A.1.1
    rcases chs_ok (u := rl) (t := ea) (fx := fx) hI.A hI.G (v 0 0).toNat (by omega) with ⟨z, -⟩ | ⟨k, hk, hi, z⟩
    · rw [bld_d z] at hR
      have hfin := hq v hv (by rw [← hR])
      rw [← hR] at hfin
      rw [z, opV_n]
      refine z_aload_n K dX10_run_13 rfl rfl rfl ?_
      refine z_ifnullN (tgt := 76) K dX10_run_14 rfl ?_
      exact z_vret K (by omega) (by omega) (hfin) dX10_run_76
    · have := (hI.step hea hk hi).2
      have h2 := (hI.step hea hk hi).1.rr
      omega
  | succ n ih =>
    intro v gx fx hv h9 hI hre hR env he
    refine zW.cut he ?_
    have hA1 := hI.A
    have h05 := hA1.1.1
    have h20 := hA1.2.1.1
    rcases chs_ok (u := rl) (t := ea) (fx := fx) hI.A hI.G (v 0 0).toNat (by omega) with ⟨z, -⟩ | ⟨k, hk, hi, z⟩
    · rw [bld_d z] at hR
      have hfin := hq v hv (by rw [← hR])
      rw [← hR] at hfin
      rw [z, opV_n]
      clear ih
      refine z_aload_n K dX10_run_13 rfl rfl rfl ?_
      refine z_ifnullN (tgt := 76) K dX10_run_14 rfl ?_
      exact z_vret K (by omega) (by omega) (hfin) dX10_run_76
    · rw [bld_s z (by omega)] at hR
      obtain ⟨hI2, hre2⟩ := hI.step hea hk hi
      have hcr := hI.cr hea hk hi
      obtain ⟨s1, s2, s3⟩ := hI.sta hk hi
      have hfit := hI.fit hk hi
      obtain ⟨a1, a2, a3, a4, a5, a6⟩ := hA1.2.1.2 k hk.1 hk.2
      have hgj := hI.G _ a1.1 a1.2
      have hSO : SO u v := ⟨fun f hf => hv f (by omega), by rw [hv 5 (by decide)], by rw [hv 5 (by decide)], fun z k => by rw [hv 3 (by decide)]; exact z k⟩
      have hBv : BkOk b v g := hSO.bk hA.2.2.2.2.2 h9 hB
      have hst := x10_startOf (b := b) (D := D) (u := v) (g := g) (rl := rl) (ea := ea) (fx := fx) (gx := gx) hD hA1 hBv hTp hk (by omega) s1 s2 s3
      have hl4 := (hA1.1.2 _ a1.1 a1.2).2.2.2
      -- the order grows
      generalize hw : tset (tset v 0 (183 + 5 * sMc (v 0) k + sOn (v 0) (sMc (v 0) k)).toNat k) 0 (179 + sMc (v 0) k).toNat (sOn (v 0) (sMc (v 0) k) + 1) = w
      have w0 : w 0 = sAdd (v 0) k := by rw [← hw]; exact tsAdd
      have wf : ∀ f, f ≠ 0 → w f = u f := fun f hf => by rw [← hw, tsG hf, tsG hf]; exact hv f hf
      have w9 : ∀ i, i < 179 → w 0 i = u 0 i := fun i hi => by rw [w0, sAdd_n (by omega) (by omega)]; exact h9 i hi
      have hx := fun (fx' : Nat → Int) => x3_add (h := sH b v (dp D b rl ea fx' gx g)) (o := b + 20 + (sMc (v 0) k).toNat) (r := b + 24 + (sMc (v 0) k).toNat) (v := k) (n := sOn (v 0) (sMc (v 0) k)) (sH_ord a2) (sH_orA a2) (by omega) (by omega) (by omega)
      have hJ1 : WfJ (tset v 0 (183 + 5 * sMc (v 0) k + sOn (v 0) (sMc (v 0) k)).toNat k 0) := hA1.1.lo fun i hi => tsN (by omega)
      have hend : ∀ fx' : Nat → Int, zup (zup (sH b v (dp D b rl ea fx' gx g)) (b + 24 + (sMc (v 0) k).toNat) (aI 5 (sup (fun q => v 0 (183 + 5 * (sMc (v 0) k).toNat + q)) (sOn (v 0) (sMc (v 0) k)).toNat k))) (b + 20 + (sMc (v 0) k).toNat) (oO (b + 24 + (sMc (v 0) k).toNat) (sOn (v 0) (sMc (v 0) k) + 1)) = sH b w (dp D b rl ea fx' gx g) := fun fx' => by
        rw [sH_row hA1.1 a2 (by omega), ← hw]
        exact sH_osz hJ1 a2
      have had := hx (sup fx k.toNat (cst (v 0) fx ea k))
      rw [hend] at had
      have hSOw : SO u w := ⟨fun f hf => wf f (by omega), by rw [wf 5 (by decide)], by rw [wf 5 (by decide)], fun z k => by rw [wf 3 (by decide)]; exact z k⟩
      have hch := x10_choose (b := b) (D := D) (u := w) (g := g) (rl := rl) (ea := ea) (fx := sup fx k.toNat (cst (v 0) fx ea k)) (gx := sup gx (sJb (v 0) k).toNat (gx (sJb (v 0) k).toNat + 1)) hD (hSOw.bk hA.2.2.2.2.2 w9 hB) hTp hr hea (by rw [w0]; exact hI2)
      have nx := ih w (sup gx (sJb (v 0) k).toNat (gx (sJb (v 0) k).toNat + 1)) (sup fx k.toNat (cst (v 0) fx ea k)) wf w9 (by rw [w0]; exact hI2) (by rw [w0, hre2]; omega) (by rw [w0]; exact hR)
      have ow : sH b w (dp D b rl ea (sup fx k.toNat (cst (v 0) fx ea k)) gx g) (b + 52 + k.toNat) = sH b v (dp D b rl ea (sup fx k.toNat (cst (v 0) fx ea k)) gx g) (b + 52 + k.toNat) := by
        rw [← hend, zup_ne (by omega), zup_ne (by omega)]
      have oop := fun fx' => sH_op (b := b) (u := v) (g := dp D b rl ea fx' gx g) (k := k) hk (by omega)
      rw [z]
      dsimp only
      rw [opV_y (c := k) (show k ≠ -1 by omega)]
      clear ih hx
      (try dsimp only [sRel, sDue, sWt, sLen, sSeq, sJb, sMc, sDu, sFa, sIx, sSu, sBn, sBf, sBl, sOn, sOr] at *)
      refine z_aload_n K dX10_run_13 rfl rfl rfl ?_
      refine z_ifnull K dX10_run_14 ?_
      refine z_aload_n K dX10_run_17 rfl rfl rfl ?_
      refine z_get K fd_X10_9_9 (sdp_0 hD) rfl dX10_run_18 ?_
      refine z_aload_n K dX10_run_21 rfl rfl rfl ?_
      refine z_get K fd_X10_123_5 ((by first | exact oop _ | exact ow.trans (oop _))) rfl dX10_run_22 ?_
      refine z_aload_n K dX10_run_25 rfl rfl rfl ?_
      refine z_aload_n K dX10_run_26 rfl rfl rfl ?_
      refine z_callV K (hst) cV_X10_109_X10 (sdp_0 hD) rfl rfl rfl (by omega) (by omega) (by omega) (Nat.le_of_ble_eq_true rfl) dX10_run_27 zrX (zrK ?_)
      refine j_istE K (sdp_1 hD) (by omega) (by omega) (by omega) dX10_run_30 (sdp_st hD) ?_
      refine z_aload_n K dX10_run_31 rfl rfl rfl ?_
      refine z_get K fd_X10_18_9 (sdp_0 hD) rfl dX10_run_32 ?_
      refine z_get K fd_X10_29_2 (sH_shop) rfl dX10_run_35 ?_
      refine z_aload_n K dX10_run_38 rfl rfl rfl ?_
      refine z_get K fd_X10_86_5 ((by first | exact oop _ | exact ow.trans (oop _))) rfl dX10_run_39 ?_
      refine z_callV K (gt_ord ⟨by omega, by omega⟩) cV_X10_35_J2 (sH_ords) rfl rfl rfl (by omega) (by omega) (by omega) (Nat.le_of_ble_eq_true rfl) dX10_run_42 zrX (zrK ?_)
      refine z_castS K (sH_ord ⟨by omega, by omega⟩) rfl q1163 dX10_run_45 ?_
      refine z_aload_n K dX10_run_48 rfl rfl rfl ?_
      refine z_get K fd_X10_123_5 ((by first | exact oop _ | exact ow.trans (oop _))) rfl dX10_run_49 ?_
      refine z_callV K (had) cV_X10_126_X3 (sH_ord ⟨by omega, by omega⟩) rfl rfl rfl (by omega) (by omega) (by omega) (Nat.le_of_ble_eq_true rfl) dX10_run_52 zvX (zvK ?_)
      refine z_aload_n K dX10_run_55 rfl rfl rfl ?_
      refine z_get K fd_X10_15_9 (sdp_0 hD) rfl dX10_run_56 ?_
      refine z_aload_n K dX10_run_59 rfl rfl rfl ?_
      refine z_get K fd_X10_57_5 ((by first | exact oop _ | exact ow.trans (oop _))) rfl dX10_run_60 ?_
      refine z_dup2 K dX10_run_63 rfl rfl ?_
      refine j_ild K (sdp_2 hD) (by omega) (by omega) dX10_run_64 ?_
      refine j_iconst K dX10_run_65 ?_
      refine j_iadd K dX10_run_66 ?_
      refine j_istE K (sdp_2 hD) (by omega) (by omega) (by omega) dX10_run_67 (sdp_nx hD) ?_
      refine z_aload_n K dX10_run_68 rfl rfl rfl ?_
      refine z_callV K (hch) cV_X10_119_X10 (sdp_0 hD) rfl rfl rfl (by omega) (by omega) (by omega) (Nat.le_of_ble_eq_true rfl) dX10_run_69 zrX (zrK ?_)
      refine z_astore_n K dX10_run_72 rfl opV_r (by decide) rfl ?_
      refine z_goto (tgt := 13) K dX10_run_73 rfl ?_
      exact nx _ ⟨rfl, rfl, trivial⟩
end XRn

