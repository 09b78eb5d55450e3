/-! ===== the reference: readOperation ===== -/
theorem nmF_r {t : Nat → Int} {L e : Int} : ∀ (r : Nat) (p n : Int), nmB r n → 0 ≤ p → p ≤ L → (p ≤ (nmF t L e r p n).1 ∧ (nmF t L e r p n).1 ≤ L) ∧ 0 ≤ (nmF t L e r p n).2 ∧ (nmF t L e r p n).2 ≤ 999
  | 0, p, n, h, p0, p1 => ⟨⟨Int.le_refl _, p1⟩, h.2.1, h.2.2.2.2.2⟩
  | r + 1, p, n, h, p0, p1 => by
    obtain ⟨b0, b1, b2, b3, b4, b5⟩ := h
    unfold nmF
    split
    · next c =>
      split
      · have z := nmF_r (t := t) (L := L) (e := e) r (p + 1) (10 * n + t p.toNat - 48) (by refine ⟨by omega, by omega, fun x => ?_, fun x => ?_, fun x => ?_, by have := b4 (by omega); omega⟩ <;> first | omega | (have := b2 (by omega); omega) | (have := b3 (by omega); omega)) (by omega) (by omega)
        exact ⟨⟨by omega, z.1.2⟩, z.2⟩
      · have := b4 (by omega)
        exact ⟨⟨by show p ≤ p + 1; omega, by show p + 1 ≤ L; omega⟩, by show 0 ≤ 10 * n + t p.toNat - 48; omega, by show 10 * n + t p.toNat - 48 ≤ 999; omega⟩
    · exact ⟨⟨Int.le_refl _, p1⟩, b1, b5⟩
theorem rdI.num {w : tW} (h : rdI w) {q : Nat} (hq : 1 ≤ q ∧ q ≤ 3) : rdI (wNum w q) ∧ (0 ≤ wNum w q 32 0 ∧ wNum w q 32 0 ≤ 999) ∧ (w 31 0 ≥ 0 → wNum w q 31 0 = w 31 0) ∧ ∀ f, f ≠ 30 → f ≠ 31 → f ≠ 32 → wNum w q f = w f := by
  obtain ⟨h1, h2, h3, h4⟩ := h
  have z := nmF_r (t := w 4) (L := w 5 0) (e := w 30 0 + q) q (w 30 0) 0 ⟨by omega, by omega, by omega, by omega, by omega, by omega⟩ (by omega) (by omega)
  have N : ∀ p n : Int, 0 ≤ p → p ≤ w 5 0 → rdI (wNP w p n) := fun p n p0 p1 => ⟨by rw [wNP_f (by decide) (by decide)]; exact h1, by rw [wNP_30, wNP_f (by decide) (by decide)]; omega, by rw [wNP_f (by decide) (by decide)]; exact h3, by rw [wNP_f (by decide) (by decide)]; exact h4⟩
  unfold wNum
  generalize nmF (w 4) (w 5 0) (w 30 0 + q) q (w 30 0) 0 = x at *
  split
  · split
    · have n := N x.1 x.2 (by omega) (by omega)
      refine ⟨⟨n.1, n.2.1, by rw [tset_s]; omega, n.2.2.2⟩, z.2, fun y => by omega, fun f f30 f31 f32 => ?_⟩
      rw [tset_g f31, wNP_f f30 f32]
    · exact ⟨N x.1 x.2 (by omega) (by omega), z.2, fun y => by omega, fun f f30 f31 f32 => wNP_f f30 f32⟩
  · exact ⟨N (w 30 0) 0 (by omega) (by omega), by rw [wNP_32]; omega, fun _ => by rw [wNP_f (by decide) (by decide)], fun f f30 f31 f32 => wNP_f f30 f32⟩
theorem rdI.takes {w : tW} (h : rdI w) (c : Int) : rdI (tset w 30 0 (w 30 0 + tk w c)) := by
  obtain ⟨h1, h2, h3, h4⟩ := h
  refine ⟨h1, ?_, h3, h4⟩
  rw [tset_s, tset_g (by decide)]
  unfold tk bI
  split <;> omega
theorem rdI.wants {w : tW} (h : rdI w) (c : Int) : rdI (wWants w c) ∧ (w 31 0 ≥ 0 → wWants w c 31 0 = w 31 0) ∧ ∀ f, f ≠ 30 → f ≠ 31 → wWants w c f = w f := by
  unfold wWants
  split
  · next q =>
    obtain ⟨h1, h2, h3, h4⟩ := h
    exact ⟨⟨h1, by rw [tset_f (by decide), tset_s, tset_g (by decide), tset_g (by decide)]; exact h2, by rw [tset_s]; omega, h4⟩, fun y => by omega, fun f f30 f31 => by rw [tset_g f31, tset_g f30]⟩
  · exact ⟨h.takes c, fun _ => tset_f (by decide), fun f f30 f31 => tset_g f30⟩
/-- the five pieces of an operation's text -/
def wR1 (w : tW) : tW := wNum w 1
def wR2 (w : tW) : tW := wWants (wR1 w) 46
def wR3 (w : tW) : tW := wNum (wR2 w) 3
def wR4 (w : tW) : tW := wWants (wR3 w) 46
def wR5 (w : tW) : tW := wNum (wR4 w) 1
theorem wR_ok {w : tW} (h : rdI w) : rdI (wR1 w) ∧ rdI (wR2 w) ∧ rdI (wR3 w) ∧ rdI (wR4 w) ∧ rdI (wR5 w) ∧ (0 ≤ wR1 w 32 0 ∧ wR1 w 32 0 ≤ 999) ∧ (0 ≤ wR3 w 32 0 ∧ wR3 w 32 0 ≤ 999) ∧ (0 ≤ wR5 w 32 0 ∧ wR5 w 32 0 ≤ 999) ∧ (w 31 0 ≥ 0 → wR5 w 31 0 = w 31 0) ∧ ∀ f, f ≠ 30 → f ≠ 31 → f ≠ 32 → wR5 w f = w f := by
  have a := h.num (q := 1) (by omega)
  have b := a.1.wants 46
  have c := b.1.num (q := 3) (by omega)
  have d := c.1.wants 46
  have e := d.1.num (q := 1) (by omega)
  refine ⟨a.1, b.1, c.1, d.1, e.1, a.2.1, c.2.1, e.2.1, fun z => ?_, fun f f30 f31 f32 => ?_⟩
  · have z1 := a.2.2.1 z
    have z2 := b.2.1 (by omega)
    have z3 := c.2.2.1 (by omega)
    have z4 := d.2.1 (by omega)
    have z5 := e.2.2.1 (by omega)
    exact z5.trans (z4.trans (z3.trans (z2.trans z1)))
  · exact (e.2.2.2 f f30 f31 f32).trans ((d.2.2 f f30 f31).trans ((c.2.2.2 f f30 f31 f32).trans ((b.2.2 f f30 f31).trans (a.2.2.2 f f30 f31 f32))))
/-- the operation that was read can be made -/
def opOk (s : Nat → Int) (j m u f : Int) : Prop := (0 ≤ m ∧ m ≤ 3) ∧ ((1 ≤ u ∧ u ≤ 30) ∧ 0 ≤ f ∧ f ≤ 2) ∧ sLen s j ≠ 4 ∧ bP (hasM s j m (sLen s j).toNat) = 0
def rOp (w : tW) (job idx made : Int) (w' : tW) : Prop := ((0 ≤ wR5 w 31 0 ∨ w 33 0 ≠ -1) ∧ w' = wR5 w) ∨ ((wR5 w 31 0 < 0 ∧ w 33 0 = -1) ∧ opOk (w 0) made (wR1 w 32 0) (wR3 w 32 0) (wR5 w 32 0) ∧ w' = wOp (wR5 w) made (wR1 w 32 0) (wR3 w 32 0) (wR5 w 32 0)) ∨ ((wR5 w 31 0 < 0 ∧ w 33 0 = -1) ∧ ¬ opOk (w 0) made (wR1 w 32 0) (wR3 w 32 0) (wR5 w 32 0) ∧ w' = tset (tset (tset (wR5 w) 33 0 job) 34 0 3) 35 0 idx)
theorem bP_n {p : Prop} (h : bP p = 0) : ¬ p := fun q => by rw [bP_t q] at h; omega
theorem hasM_n {s : Nat → Int} {j m : Int} : ∀ n : Nat, ¬ hasM s j m n → ∀ i : Nat, i < n → sMc s (sSeq s j i) ≠ m
  | 0, _, i, hi => by omega
  | n + 1, h, i, hi => fun e => by
    rcases (by omega : i < n ∨ i = n) with c | c
    · exact hasM_n n (fun q => h (Or.inl q)) i c e
    · subst c; exact h (Or.inr e)
theorem opOk.no {s : Nat → Int} {j m u f : Int} (h : opOk s j m u f) : noM s j m := fun i i0 i1 => by
  have := hasM_n _ (bP_n h.2.2.2) i.toNat (by omega)
  rw [show ((i.toNat : Nat) : Int) = i by omega] at this
  exact this
theorem tw_readOperation {w : tW} {job idx made : Int} (h : rdI w) (hA : WfA (w 0)) (hO : WfO (w 0)) (h33 : -1 ≤ w 33 0 ∧ w 33 0 ≤ 1000) (hmd : w 33 0 = -1 → 0 ≤ made ∧ made < w 0 0) : tMv yX4_readOperation cX4_readOperation 7 4 [.int (iI job), .int (iI idx), .int (iI made)] w (rOp w job idx made) := by
  refine zMet.of (by decide) (Nat.le_of_ble_eq_true rfl) fun X K => ?_
  obtain ⟨r1, r2, r3, r4, r5, n1, n3, n5, kf, ff⟩ := wR_ok h
  have e0 : wR5 w 0 = w 0 := ff 0 (by decide) (by decide) (by decide)
  have e33 : wR5 w 33 = w 33 := ff 33 (by decide) (by decide) (by decide)
  have h31 := r5.2.2.1
  have h05 := hA.1.1
  have h20 := hA.2.1.1
  have k98 : wR5 w 31 0 < 0 → w 33 0 = -1 → ¬ opOk (w 0) made (wR1 w 32 0) (wR3 w 32 0) (wR5 w 32 0) → ∀ env, zsub env [(0, .ref 1000), (1, .int (iI job)), (2, .int (iI idx)), (3, .int (iI made))] → zW X (zPv fun h' => ∃ w', h' = tH w' ∧ rOp w job idx made w') (tH (wR5 w)) 0 0 98 env [] := fun z1 z2 z3 env he => by
    refine zW.cut he ?_
    refine z_aload_n K dX4_readOperation_98 rfl rfl rfl ?_
    refine z_iload_n K dX4_readOperation_99 rfl rfl ?_
    refine j_iconst K dX4_readOperation_100 ?_
    refine z_iload_n K dX4_readOperation_101 rfl rfl ?_
    refine t_callv K (tw_cannot (w := wR5 w) (by rw [e33]; exact h33)) cV_X4_318_X4 rfl rfl (by decide) (Nat.le_of_ble_eq_true rfl) (Nat.le_refl _) (Nat.le_refl _) dX4_readOperation_102 ?_
    rintro w9 hw9
    rw [e33, if_pos z2] at hw9
    refine z_goto (tgt := 123) K dX4_readOperation_105 rfl ?_
    exact t_vret K (Nat.le_refl _) (Nat.le_refl _) (Or.inr (Or.inr ⟨⟨z1, z2⟩, z3, hw9⟩)) dX4_readOperation_123
  have k55 : wR5 w 31 0 < 0 → w 33 0 = -1 → ∀ env, zsub env [(0, .ref 1000), (1, .int (iI job)), (2, .int (iI idx)), (3, .int (iI made)), (4, .int (iI (wR1 w 32 0))), (5, .int (iI (wR3 w 32 0)))] → zW X (zPv fun h' => ∃ w', h' = tH w' ∧ rOp w job idx made w') (tH (wR5 w)) 0 0 55 env [] := fun z1 z2 env he => by
    refine zW.cut he ?_
    have hmd := hmd z2
    have l4 := (hA.1.2 made hmd.1 hmd.2).2.2.2
    have hS := fun i i0 i1 => (hA.2.2.1 made i hmd.1 hmd.2 i0 i1).1
    have kk := k98 z1 z2
    generalize hm : wR1 w 32 0 = m at *
    generalize hu : wR3 w 32 0 = u at *
    generalize hf : wR5 w 32 0 = f at *
    generalize hW : wR5 w = W at *
    have el : W 0 (17 + made).toNat = w 0 (17 + made).toNat := by rw [e0]
    (try dsimp only [sRel, sDue, sWt, sLen, sSeq, sJb, sMc, sDu, sFa, sIx, sSu, sBn, sBf, sBl, sOn, sOr] at *)
    refine z_iload K dX4_readOperation_55 rfl ?_
    refine z_calls K (s_isMachine (by omega)) cS_X4_122 rfl rfl (by decide) (Nat.le_of_ble_eq_true rfl) (Nat.le_refl _) (Nat.le_refl _) dX4_readOperation_57 ?_
    refine j_if_eq (tgt := 98) K dX4_readOperation_60 rfl (b01r _) (fun c_60 => ?_) (fun c_60 => ?_)
    · rw [bI_eq] at c_60
      have zz := kk (fun q => c_60 q.1)
      exact zz _ ⟨rfl, rfl, rfl, rfl, trivial⟩
    · rw [bI_ne] at c_60
      refine z_iload K dX4_readOperation_63 rfl ?_
      refine z_aload_n K dX4_readOperation_65 rfl rfl rfl ?_
      refine t_geti K fd_X4_289_0 (by decide) rfl dX4_readOperation_66 ?_
      rw [hf]
      refine z_calls K (s_areProperties (by omega) (by omega)) cS_X4_125 rfl rfl (by decide) (Nat.le_of_ble_eq_true rfl) (Nat.le_refl _) (Nat.le_refl _) dX4_readOperation_69 ?_
      refine j_if_eq (tgt := 98) K dX4_readOperation_72 rfl (b01r _) (fun c_72 => ?_) (fun c_72 => ?_)
      · rw [bI_eq] at c_72
        have zz := kk (fun q => c_72 q.2.1)
        exact zz _ ⟨rfl, rfl, rfl, rfl, trivial⟩
      · rw [bI_ne] at c_72
        refine z_aload_n K dX4_readOperation_75 rfl rfl rfl ?_
        refine t_geta K fd_X4_9_0 rfl dX4_readOperation_76 ?_
        refine j_bipush K dX4_readOperation_79 (by decide +kernel) ?_
        refine z_iload_n K dX4_readOperation_81 rfl rfl ?_
        refine j_iadd K dX4_readOperation_82 ?_
        refine t_ild K 0 203 rfl rfl rfl (by omega) (by omega) rfl dX4_readOperation_83 ?_
        rw [el]
        refine j_iconst K dX4_readOperation_84 ?_
        refine j_icmp_eq (tgt := 98) K dX4_readOperation_85 rfl (by omega) (by omega) (fun c_85 => ?_) (fun c_85 => ?_)
        · have zz := kk (fun q => q.2.2.1 c_85)
          exact zz _ ⟨rfl, rfl, rfl, rfl, trivial⟩
        · refine z_aload_n K dX4_readOperation_88 rfl rfl rfl ?_
          refine z_iload_n K dX4_readOperation_89 rfl rfl ?_
          refine z_iload K dX4_readOperation_90 rfl ?_
          refine t_callp K (tw_hasMachine (w := W) (by omega) (by omega) (by rw [el]; omega) (fun i hi => by rw [el] at hi; rw [e0]; have := hS i (by omega) hi; omega) (fun i hi => by rw [el] at hi; rw [e0]; have := hS i (by omega) hi; exact (hA.2.1.2 _ this.1 this.2).2.1)) cV_X4_128_X4 rfl rfl (by decide) (Nat.le_of_ble_eq_true rfl) (Nat.le_refl _) (Nat.le_refl _) dX4_readOperation_92 ?_
          rw [e0]
          refine j_if_eq (tgt := 108) K dX4_readOperation_95 rfl (by rcases bP_01 (hasM (w 0) made m (w 0 (17 + made).toNat).toNat) with q | q <;> rw [q] <;> omega) (fun c_95 => ?_) (fun c_95 => ?_)
          · have hok : opOk (w 0) made m u f := ⟨c_60, c_72, c_85, c_95⟩
            have hro := room_op hA hmd (by (try dsimp only [sRel, sDue, sWt, sLen, sSeq, sJb, sMc, sDu, sFa, sIx, sSu, sBn, sBf, sBl, sOn, sOr] at *); omega)
            have hrn := room_on hA hO hmd c_60 hok.no
            have hrm := (hO m c_60.1 c_60.2).1
            (try dsimp only [sRel, sDue, sWt, sLen, sSeq, sJb, sMc, sDu, sFa, sIx, sSu, sBn, sBf, sBl, sOn, sOr] at *)
            refine z_aload_n K dX4_readOperation_108 rfl rfl rfl ?_
            refine z_iload_n K dX4_readOperation_109 rfl rfl ?_
            refine z_iload K dX4_readOperation_110 rfl ?_
            refine z_iload K dX4_readOperation_112 rfl ?_
            refine z_aload_n K dX4_readOperation_114 rfl rfl rfl ?_
            skip
            refine t_geti K fd_X4_289_0 (by decide) rfl dX4_readOperation_115 ?_
            rw [hf]
            refine t_calli K (tw_createOperation (w := W) (by omega) (by omega) (by rw [e0]; omega) (by rw [el]; omega) (by rw [e0]; omega)) cV_X4_131_X4 rfl rfl (by decide) (Nat.le_of_ble_eq_true rfl) (Nat.le_refl _) (Nat.le_refl _) dX4_readOperation_118 ?_
            rintro _ _ ⟨rfl, rfl⟩
            refine z_istore K dX4_readOperation_121 (by decide) rfl ?_
            exact t_vret K (Nat.le_refl _) (Nat.le_refl _) (Or.inr (Or.inl ⟨⟨by rw [hW]; exact z1, z2⟩, by rw [hm, hu, hW, hf]; exact hok, by rw [hm, hu, hW, hf]⟩)) dX4_readOperation_123
          · have zz := kk (fun q => c_95 q.2.2.2)
            exact zz _ ⟨rfl, rfl, rfl, rfl, trivial⟩
  refine z_aload_n K dX4_readOperation_0 rfl rfl rfl ?_
  refine j_iconst K dX4_readOperation_1 ?_
  refine t_callv K (tw_readNumber (q := 1) (by omega) h) cV_X4_311_X4 rfl rfl (by decide) (Nat.le_of_ble_eq_true rfl) (Nat.le_refl _) (Nat.le_refl _) dX4_readOperation_2 ?_
  rintro _ rfl
  rw [show wNum w 1 = wR1 w from rfl]
  refine z_aload_n K dX4_readOperation_5 rfl rfl rfl ?_
  refine t_geti K fd_X4_289_0 (by decide) rfl dX4_readOperation_6 ?_
  refine z_istore K dX4_readOperation_9 (by decide) rfl ?_
  refine z_aload_n K dX4_readOperation_11 rfl rfl rfl ?_
  refine j_bipush K dX4_readOperation_12 (by decide +kernel) ?_
  refine t_callv K (tw_wants (c := 46) (by omega) r1) cV_X4_314_X4 rfl rfl (by decide) (Nat.le_of_ble_eq_true rfl) (Nat.le_refl _) (Nat.le_refl _) dX4_readOperation_14 ?_
  rintro _ rfl
  rw [show wWants (wR1 w) 46 = wR2 w from rfl]
  refine z_aload_n K dX4_readOperation_17 rfl rfl rfl ?_
  refine j_iconst K dX4_readOperation_18 ?_
  refine t_callv K (tw_readNumber (q := 3) (by omega) r2) cV_X4_311_X4 rfl rfl (by decide) (Nat.le_of_ble_eq_true rfl) (Nat.le_refl _) (Nat.le_refl _) dX4_readOperation_19 ?_
  rintro _ rfl
  rw [show wNum (wR2 w) 3 = wR3 w from rfl]
  refine z_aload_n K dX4_readOperation_22 rfl rfl rfl ?_
  refine t_geti K fd_X4_289_0 (by decide) rfl dX4_readOperation_23 ?_
  refine z_istore K dX4_readOperation_26 (by decide) rfl ?_
  refine z_aload_n K dX4_readOperation_28 rfl rfl rfl ?_
  refine j_bipush K dX4_readOperation_29 (by decide +kernel) ?_
  refine t_callv K (tw_wants (c := 46) (by omega) r3) cV_X4_314_X4 rfl rfl (by decide) (Nat.le_of_ble_eq_true rfl) (Nat.le_refl _) (Nat.le_refl _) dX4_readOperation_31 ?_
  rintro _ rfl
  rw [show wWants (wR3 w) 46 = wR4 w from rfl]
  refine z_aload_n K dX4_readOperation_34 rfl rfl rfl ?_
  refine j_iconst K dX4_readOperation_35 ?_
  refine t_callv K (tw_readNumber (q := 1) (by omega) r4) cV_X4_311_X4 rfl rfl (by decide) (Nat.le_of_ble_eq_true rfl) (Nat.le_refl _) (Nat.le_refl _) dX4_readOperation_36 ?_
  rintro _ rfl
  rw [show wNum (wR4 w) 1 = wR5 w from rfl]
  refine z_aload_n K dX4_readOperation_39 rfl rfl rfl ?_
  refine t_geti K fd_X4_292_0 (by decide) rfl dX4_readOperation_40 ?_
  refine j_if_ge (tgt := 54) K dX4_readOperation_43 rfl (by omega) (fun c_43 => ?_) (fun c_43 => ?_)
  · exact t_vret K (Nat.le_refl _) (Nat.le_refl _) ((by first | exact Or.inl ⟨Or.inl (by omega), rfl⟩ | exact Or.inl ⟨Or.inr (by omega), rfl⟩)) dX4_readOperation_54
  · refine z_aload_n K dX4_readOperation_46 rfl rfl rfl ?_
    refine t_geti K fd_X4_302_0 (by decide) rfl dX4_readOperation_47 ?_
    refine j_iconst K dX4_readOperation_50 ?_
    rw [e33]
    refine j_icmp_eq (tgt := 55) K dX4_readOperation_51 rfl (by omega) (by omega) (fun c_51 => ?_) (fun c_51 => ?_)
    · exact k55 (by omega) (by omega) _ ⟨rfl, rfl, rfl, rfl, rfl, rfl, trivial⟩
    · exact t_vret K (Nat.le_refl _) (Nat.le_refl _) ((by first | exact Or.inl ⟨Or.inl (by omega), rfl⟩ | exact Or.inl ⟨Or.inr (by omega), rfl⟩)) dX4_readOperation_54

