/-! ===== the component's operations: utilization, the critical path ===== -/
/-- an operation that answers a double -/
def cQd (h : zH) (R : UInt64 → tW → Prop) (cd : Nat → Int) : zO → zH → Prop := fun z h' => (∀ m, m < 1040 → h' m = h m) ∧ ((∃ v : UInt64, z = .inl (some (.double v)) ∧ ∀ v' w', R v' w' → w' 3 0 = 0 ∧ v' = v ∧ CX h' w') ∨ (∃ (q ci : Nat) (fs : List Value), z = .inr q ∧ h' q = some (.inr (ci, fs)) ∧ cd ci ≠ 0 ∧ ∀ v' w', R v' w' → w' 3 0 = cd ci ∧ CX h' w'))
def utQ (w : tW) (m : Int) (x : UInt64) (w' : tW) : Prop := (tcMach m = 0 → utlQ w m x w') ∧ (tcMach m ≠ 0 → w' = tset w 3 0 (tcMach m))
section XO7
variable {b N : Nat} {u u' w : tW} {g h0 : zH}
theorem x1_utilization {m : Int} (hC : CG b N u g w) (hI : TI w) (hm : i32 m) : zMet yX1_utilization (ws_ yX1_utilization cX1_utilization 6 (some .double)) 8 [.ref 1040, .int (iI m)] (sH b u g) (cQd (sH b u g) (utQ w m) (cdA 24 99 99)) 1 6 := by
  obtain ⟨sv, T, fl, cl, hx⟩ := hC.xg
  have n8 := hC.n8
  have er := hC.row
  have k0 := x1_orderOf hC hm
  have k1 := x1_cmp hC
  have h20 := hC.A.2.1.1
  obtain ⟨Q, hQ⟩ : ∃ Q : zO → zH → Prop, Q = cQd (sH b u g) (utQ w m) (cdA 24 99 99) := ⟨_, rfl⟩
  have hex : ¬ (0 ≤ m ∧ m ≤ 3) → Q (.inr N) (zup (sH b u g) N (oEx 24 (sH b u g) N)) := fun ck => by
    rw [hQ]
    refine ⟨fun m hm => zup_ne (by omega), Or.inr ⟨N, 24, _, rfl, zup_at _ _ _, by decide, fun v' w' r => ?_⟩⟩
    have e : tcMach m = 1 := if_neg ck
    rw [r.2 (by rw [e]; decide), e]
    exact ⟨set3_3, hC.up sw.set set3_0⟩
  have hok : ∀ u' rd st, SK u u' → Sch (u 0) u' rd st → (0 ≤ m ∧ m ≤ 3) → ∀ v, v = utD (durS (u 0) m (sOn (u 0) m).toNat) (gEnd (u 0) st (u 0 1).toNat) → Q (.inl (some (.double v))) (sH b u' g) := fun u' rd st sk sc c1 v e => by
    rw [hQ]
    refine ⟨fun m hm => (sH_out (by omega)).trans (hC.lo m hm).symm, Or.inl ⟨v, rfl, fun v' w' r => ?_⟩⟩
    obtain ⟨rd', st', rfl, hf, rfl⟩ := r.1 (if_pos c1)
    exact ⟨wt_3, by rw [e, sc.mk hC hI hf, er], (hC.sk sk).same sw.wt wt_0⟩
  rw [← hQ]
  clear hQ
  refine zMet.of (by decide) (Nat.le_of_ble_eq_true rfl) fun X K => ?_
  have last : ∀ u' rd st, SK u u' → Sch (u 0) u' rd st → (0 ≤ m ∧ m ≤ 3) → ∀ env, zsub env [(3, .int (iI (gEnd (u 0) st (u 0 1).toNat))), (4, .int (iI (durS (u 0) m (sOn (u 0) m).toNat)))] → zW X Q (sH b u' g) 1 6 60 env [] := by
    intro u' rd st sk sc c1 env he
    refine zW.cut he ?_
    have fin := hok u' rd st sk sc c1
    have on := (hC.O m c1.1 c1.2).1
    have hd := durS_r hC.A hC.O c1 (sOn (u 0) m).toNat (by omega)
    have h1 := gMx_le (s := u 0) (st := st) (B := 2000) (by omega) (u 0 1).toNat (fun i hi hs => by
      have := sc.2.2.2.2.1 i (by omega)
      have hdu : 1 ≤ u 0 (82 + (i : Int)).toNat ∧ u 0 (82 + (i : Int)).toNat ≤ 30 := (hC.A.2.1.2 i (by omega) (by omega)).2.2.1
      omega)
    have h2 := gMx_0 (u 0) st (u 0 1).toNat
    rw [gMx_all _ sc.2.2.2.1] at h1 h2
    by_cases hz : gEnd (u 0) st (u 0 1).toNat = 0
    · have f1 := fin 0 (if_pos hz).symm
      refine z_iload_n K dX1_utilization_60 rfl rfl ?_
      refine j_if_ne (tgt := 68) K dX1_utilization_61 rfl (by omega) (fun c_61 => ?_) (fun c_61 => ?_)
      · exact absurd hz c_61
      · refine z_dconst0 K dX1_utilization_64 ?_
        refine z_goto (tgt := 74) K dX1_utilization_65 rfl ?_
        exact z_dret K (by omega) (by omega) (f1) dX1_utilization_74
    · have f1 := fin _ (if_neg hz).symm
      refine z_iload_n K dX1_utilization_60 rfl rfl ?_
      refine j_if_ne (tgt := 68) K dX1_utilization_61 rfl (by omega) (fun c_61 => ?_) (fun c_61 => ?_)
      · refine z_iload K dX1_utilization_68 rfl ?_
        refine z_i2d K dX1_utilization_70 ?_
        refine z_iload_n K dX1_utilization_71 rfl rfl ?_
        refine z_i2d K dX1_utilization_72 ?_
        refine z_ddiv K dX1_utilization_73 (dv_ok (by omega) (by omega)) ?_
        exact z_dret K (by omega) (by omega) (f1) dX1_utilization_74
      · exact absurd c_61 hz
  have loop : ∀ u' rd st, SK u u' → Sch (u 0) u' rd st → (0 ≤ m ∧ m ≤ 3) → ∀ r i : Nat, (r : Int) + i = sOn (u 0) m → ∀ env, zsub env [(0, .ref 1040), (2, .ref (b + 20 + m.toNat)), (3, .int (iI (gEnd (u 0) st (u 0 1).toNat))), (4, .int (iI (durS (u 0) m i))), (5, .int (iI i))] → zW X Q (sH b u' g) 1 6 17 env [] := by
    intro u' rd st sk sc c1 r
    have e0 := sk.e0
    obtain ⟨o1, o2, o3, o4⟩ := hC.O m c1.1 c1.2
    induction r with
    | zero =>
      intro i hi env he
      refine zW.cut he ?_
      have nx := last u' rd st sk sc c1
      rw [show (sOn (u 0) m).toNat = i by omega] at nx
      have on : u' 0 (179 + m).toNat = sOn (u 0) m := by rw [e0]
      refine z_iload K dX1_utilization_17 rfl ?_
      refine z_aload_n K dX1_utilization_19 rfl rfl rfl ?_
      refine z_get K fd_X1_150_3 (sH_ord ⟨by omega, by omega⟩) rfl dX1_utilization_20 ?_
      refine j_icmp_ge (tgt := 60) K dX1_utilization_23 rfl (by omega) (by omega) (fun c_23 => ?_) (fun c_23 => ?_)
      · exact nx _ ⟨rfl, rfl, trivial⟩
      · exact absurd c_23 (by omega)
    | succ r ih =>
      intro i hi env he
      refine zW.cut he ?_
      have nx := ih (i + 1) (by omega)
      have on : u' 0 (179 + m).toNat = sOn (u 0) m := by rw [e0]
      have oo := (o2 i (by omega) (by omega)).1
      have eo : u' 0 (183 + 5 * m + i).toNat = sOr (u 0) m i := by rw [e0]
      have e1 : u' 0 1 = u 0 1 := by rw [e0]
      have ed : u' 0 (82 + u' 0 (183 + 5 * m + i).toNat).toNat = sDu (u 0) (sOr (u 0) m i) := by rw [e0]
      refine z_iload K dX1_utilization_17 rfl ?_
      refine z_aload_n K dX1_utilization_19 rfl rfl rfl ?_
      refine z_get K fd_X1_150_3 (sH_ord ⟨by omega, by omega⟩) rfl dX1_utilization_20 ?_
      refine j_icmp_ge (tgt := 60) K dX1_utilization_23 rfl (by omega) (by omega) (fun c_23 => ?_) (fun c_23 => ?_)
      · exact absurd c_23 (by omega)
      · refine z_iload K dX1_utilization_26 rfl ?_
        refine z_aload_n K dX1_utilization_28 rfl rfl rfl ?_
        refine z_get K fd_X1_16_1 (hx _) rfl dX1_utilization_29 ?_
        refine z_get K fd_X1_59_2 (sH_shop) rfl dX1_utilization_32 ?_
        refine z_aload_n K dX1_utilization_35 rfl rfl rfl ?_
        refine z_get K fd_X1_155_3 (sH_ord ⟨by omega, by omega⟩) rfl dX1_utilization_36 ?_
        refine z_iload K dX1_utilization_39 rfl ?_
        refine s_ldrow K (⟨by omega, by omega⟩) (by omega) (by omega) dX1_utilization_41 ?_
        refine z_callV K (gt_ops ⟨by omega, by omega⟩ (by omega)) cV_X1_53_J2 (sH_ops) rfl rfl rfl (by omega) (by omega) (by omega) (Nat.le_of_ble_eq_true rfl) dX1_utilization_42 zrX (zrK ?_)
        refine z_castS K (sH_op ⟨by omega, by omega⟩ (by omega)) rfl q468 dX1_utilization_45 ?_
        refine z_get K fd_X1_113_5 (sH_op ⟨by omega, by omega⟩ (by omega)) rfl dX1_utilization_48 ?_
        refine j_iadd K dX1_utilization_51 ?_
        refine z_istore K dX1_utilization_52 (by decide) rfl ?_
        refine j_iinc K dX1_utilization_54 rfl (by decide) rfl ?_
        refine z_goto (tgt := 17) K dX1_utilization_57 rfl ?_
        exact nx _ ⟨rfl, rfl, rfl, congrArg (fun z => some (Value.int (iI (durS (u 0) m i + z)))) ed, rfl, trivial⟩
  refine z_aload_n K dX1_utilization_0 rfl rfl rfl ?_
  refine z_iload_n K dX1_utilization_1 rfl rfl ?_
  refine z_callV K (k0) cV_X1_146_X1 (hx _) rfl rfl rfl (by omega) (by omega) (by omega) (Nat.le_of_ble_eq_true rfl) dX1_utilization_2 (ckX fun ck_2 => z_out K rfl (by omega) (by omega) (hex ck_2)) (rkK fun ck_2 => ?_)
  refine z_astore_n K dX1_utilization_5 rfl rfl (by decide) rfl ?_
  refine z_aload_n K dX1_utilization_6 rfl rfl rfl ?_
  refine z_callV K (k1) cV_X1_158_X1 (hx _) rfl rfl rfl (by omega) (by omega) (by omega) (Nat.le_of_ble_eq_true rfl) dX1_utilization_7 cmX (cmK fun u' rd st sk sc => ?_)
  refine z_istore_n K dX1_utilization_10 rfl (by decide) rfl ?_
  refine j_iconst K dX1_utilization_11 ?_
  refine z_istore K dX1_utilization_12 (by decide) rfl ?_
  refine j_iconst K dX1_utilization_14 ?_
  refine z_istore K dX1_utilization_15 (by decide) rfl ?_
  exact loop u' rd st sk sc ck_2 (sOn (u 0) m).toNat 0 (by have := (hC.O m ck_2.1 ck_2.2).1; omega) _ ⟨rfl, rfl, rfl, rfl, rfl, trivial⟩
/-- the path stands as a list at M + 4 -/
def cpQ (b N : Nat) (u : tW) (g : zH) : zO → zH → Prop := fun z h' => ∃ (u' : tW) (rd st : Nat → Int) (c : Int) (g' : zH), z = .inl (some (.ref (N + 4))) ∧ h' = sH b u' (lH (N + 4) c (pthS (u 0) (oB 0) rd st).length (fun i => b + 52 + (pthF (u 0) (oB 0) rd st i).toNat) g') ∧ SK u u' ∧ Sch (u 0) u' rd st ∧ zExt N g g' ∧ zTop g' (N + 4) ∧ (pthS (u 0) (oB 0) rd st).length ≤ 20 ∧ ∀ i : Nat, i < (pthS (u 0) (oB 0) rd st).length → 0 ≤ pthF (u 0) (oB 0) rd st i ∧ pthF (u 0) (oB 0) rd st i < u 0 1
theorem x1_criticalPath (hC : CG b N u g w) : zMet yX1_criticalPath (ws_ yX1_criticalPath cX1_criticalPath 1 (some (.object "java/util/ArrayList"))) 10 [.ref 1040] (sH b u g) (cpQ b N u g) 60 1200 := by
  obtain ⟨sv, T, fl, cl, hx⟩ := hC.xg
  have n8 := hC.n8
  have k1 := x1_cmp hC
  refine zMet.of (by decide) (Nat.le_of_ble_eq_true rfl) fun X K => ?_
  refine z_aload_n K dX1_criticalPath_0 rfl rfl rfl ?_
  refine z_callV K (k1) cV_X1_158_X1 (hx _) rfl rfl rfl (by omega) (by omega) (by omega) (Nat.le_of_ble_eq_true rfl) dX1_criticalPath_1 cmX (cmK fun u' rd st sk sc => ?_)
  refine z_pop K dX1_criticalPath_4 rfl ?_
  have e0 := sk.e0
  have kp := x2_path (b := b) (u := u') (g := g) (N := N) n8.1 n8.2.2.1 hC.2.2.1 hC.2.2.2.1 (by rw [e0]; exact hC.A) (by rw [e0]; exact hC.O) sc.1 (by rw [e0]; exact sc.2.1)
  rw [e0] at kp
  refine z_aload_n K dX1_criticalPath_5 rfl rfl rfl ?_
  refine z_get K fd_X1_16_1 (hx _) rfl dX1_criticalPath_6 ?_
  refine z_callV K (kp) cV_X1_192_X2 (sH_shop) rfl rfl rfl (by omega) (by omega) (by omega) (Nat.le_of_ble_eq_true rfl) dX1_criticalPath_9 (fun q h1 hq => by obtain ⟨_, _, z, -⟩ := hq; cases z) ?_
  rintro v h1 ⟨c, g', z, rfl, hge, hgt, hl, hp⟩
  cases z
  exact z_aret K (by simp) rfl (by omega) (by omega) (⟨u', rd, st, c, g', rfl, rfl, sk, sc, hge, hgt, hl, hp⟩) dX1_criticalPath_12
/-- what the reference's path is -/
theorem PW.e {w' : tW} {rd st rd' st' : Nat → Int} (hC : CG b N u g w) (hI : TI w) (sc : Sch (u 0) u' rd st) (h : PW w w' rd' st') : pthS (w 0) (w 13) rd' st' = pthS (u 0) (oB 0) rd st := by
  rw [← hC.row]
  exact pthS_cg hC.A hC.O hI.ob0 (fun k a b => by have := sc.tie hC hI h.1 k a b; exact ⟨this.1.symm, this.2.symm⟩)
theorem PW.sw {w' : tW} {rd st : Nat → Int} (h : PW w w' rd st) : sw w w' ∧ w' 0 = w 0 := ⟨sw.fr h.2.1 (by simp; omega), h.2.1 0 (by decide)⟩
theorem CG.pl {c : Int} {n : Nat} {f : Nat → Nat} {g' : zH} (hC : CG b N u g w) (sk : SK u u') (he : zExt N g g') (ht : zTop g' (N + 4)) : CG b (N + 8) u' (lH (N + 4) c n f g') w := by
  exact (hC.sk sk).gr (he.tr lH_ext (by omega)) (lH_top ht) (by omega)
theorem x1_pathLength (hC : CG b N u g w) (hI : TI w) : zMet yX1_pathLength (ws_ yX1_pathLength cX1_pathLength 1 (some .int)) 11 [.ref 1040] (sH b u g) (cQ (sH b u g) (fun v w' => ∃ rd st, PW w w' rd st ∧ w' 3 0 = 0 ∧ v = (pthS (w 0) (w 13) rd st).length) (cdA 99 99 99)) 60 1200 := by
  obtain ⟨sv, T, fl, cl, hx⟩ := hC.xg
  have n8 := hC.n8
  have k1 := x1_criticalPath hC
  refine zMet.of (by decide) (Nat.le_of_ble_eq_true rfl) fun X K => ?_
  refine z_aload_n K dX1_pathLength_0 rfl rfl rfl ?_
  refine z_callV K (k1) cV_X1_196_X1 (hx _) rfl rfl rfl (by omega) (by omega) (by omega) (Nat.le_of_ble_eq_true rfl) dX1_pathLength_1 (fun q h1 hq => by obtain ⟨_, _, _, _, _, z, -⟩ := hq; cases z) ?_
  rintro v h1 ⟨u', rd, st, c, g', z, rfl, sk, sc, hge, hgt, hl, hp⟩
  cases z
  refine z_callV K (jl_size (sH_l0 (by omega))) cV_X1_43_J2 (sH_l0 (by omega)) rfl rfl rfl (by omega) (by omega) (by omega) (Nat.le_of_ble_eq_true rfl) dX1_pathLength_4 zrX (zrK ?_)
  exact z_iret K (by omega) (by omega) (cQ.ok (hC.pl sk hge hgt) (fun m hm => (hC.lo m hm).trans ((lH_o (by omega)).trans (hge m (by omega))).symm) (by rintro v' w' ⟨rd', st', pw, h3, rfl⟩; exact ⟨h3, by rw [pw.e hC hI sc], pw.sw⟩)) dX1_pathLength_7
theorem x1_path {i : Int} (hC : CG b N u g w) (hI : TI w) (hi : i32 i) : zMet yX1_path (ws_ yX1_path cX1_path 3 (some .int)) 11 [.ref 1040, .int (iI i)] (sH b u g) (cQ (sH b u g) (fun v w' => ∃ rd st, PW w w' rd st ∧ w' 3 0 = tcPath (pthS (w 0) (w 13) rd st).length i ∧ (w' 3 0 = 0 → (pthS (w 0) (w 13) rd st)[((pthS (w 0) (w 13) rd st).length - 1 - i).toNat]? = some v)) (cdA 25 99 99)) 61 1206 := by
  obtain ⟨sv, T, fl, cl, hx⟩ := hC.xg
  have n8 := hC.n8
  have h20 := hC.A.2.1.1
  have k1 := x1_criticalPath hC
  generalize hR : (fun v w' => ∃ rd st, PW w w' rd st ∧ w' 3 0 = tcPath (pthS (w 0) (w 13) rd st).length i ∧ (w' 3 0 = 0 → (pthS (w 0) (w 13) rd st)[((pthS (w 0) (w 13) rd st).length - 1 - i).toNat]? = some v)) = R
  have hok : ∀ (u' : tW) (rd st : Nat → Int) (c : Int) (g' : zH) (f : Nat → Nat), SK u u' → Sch (u 0) u' rd st → zExt N g g' → zTop g' (N + 4) → (0 ≤ i ∧ i ≤ (pthS (u 0) (oB 0) rd st).length - 1) → cQ (sH b u g) R (cdA 25 99 99) (.inl (some (.int (iI (pthF (u 0) (oB 0) rd st i.toNat))))) (sH b u' (lH (N + 4) c (pthS (u 0) (oB 0) rd st).length f g')) := fun u' rd st c g' f sk sc hge hgt ck => cQ.ok (hC.pl sk hge hgt) (fun m hm => (hC.lo m hm).trans ((lH_o (by omega)).trans (hge m (by omega))).symm) (by
    intro v' w' r
    rw [← hR] at r
    obtain ⟨rd', st', pw, h3, h4⟩ := r
    rw [pw.e hC hI sc] at h3 h4
    rw [show tcPath (pthS (u 0) (oB 0) rd st).length i = 0 from if_pos ck] at h3
    refine ⟨h3, ?_, pw.sw⟩
    have h5 := h4 h3
    unfold pthF
    rw [show (pthS (u 0) (oB 0) rd st).length - 1 - i.toNat = (((pthS (u 0) (oB 0) rd st).length : Int) - 1 - i).toNat by omega, h5]
    rfl)
  have hex : ∀ (u' : tW) (rd st : Nat → Int) (c : Int) (g' : zH) (f : Nat → Nat) (fs : List Value), SK u u' → Sch (u 0) u' rd st → zExt N g g' → zTop g' (N + 4) → ¬ (0 ≤ i ∧ i ≤ (pthS (u 0) (oB 0) rd st).length - 1) → cQ (sH b u g) R (cdA 25 99 99) (.inr (N + 8)) (zup (sH b u' (lH (N + 4) c (pthS (u 0) (oB 0) rd st).length f g')) (N + 8) (.inr (25, fs))) := fun u' rd st c g' f fs sk sc hge hgt ck => cQ.ex (hC.pl sk hge hgt) (fun m hm => (hC.lo m hm).trans ((lH_o (by omega)).trans (hge m (by omega))).symm) (by decide) (by
    intro v' w' r
    rw [← hR] at r
    obtain ⟨rd', st', pw, h3, h4⟩ := r
    rw [pw.e hC hI sc] at h3
    rw [show tcPath (pthS (u 0) (oB 0) rd st).length i = 1 from if_neg ck] at h3
    exact ⟨h3, pw.sw⟩)
  clear hR
  refine zMet.of (by decide) (Nat.le_of_ble_eq_true rfl) fun X K => ?_
  refine z_aload_n K dX1_path_0 rfl rfl rfl ?_
  refine z_callV K (k1) cV_X1_196_X1 (hx _) rfl rfl rfl (by omega) (by omega) (by omega) (Nat.le_of_ble_eq_true rfl) dX1_path_1 (fun q h1 hq => by obtain ⟨_, _, _, _, _, z, -⟩ := hq; cases z) ?_
  rintro v h1 ⟨u', rd, st, c, g', z, rfl, sk, sc, hge, hgt, hl, hp⟩
  cases z
  have hok1 := hok u' rd st c g' (fun i => b + 52 + (pthF (u 0) (oB 0) rd st i).toNat) sk sc hge hgt
  have hex1 := fun fs => hex u' rd st c g' (fun i => b + 52 + (pthF (u 0) (oB 0) rd st i).toNat) fs sk sc hge hgt
  have hC2 := hC.pl (c := c) (n := (pthS (u 0) (oB 0) rd st).length) (f := fun i => b + 52 + (pthF (u 0) (oB 0) rd st i).toNat) sk hge hgt
  have e0 := sk.e0
  have e1 : u' 0 1 = u 0 1 := by rw [e0]
  refine z_astore_n K dX1_path_4 rfl rfl (by decide) rfl ?_
  refine z_iload_n K dX1_path_5 rfl rfl ?_
  refine j_iconst K dX1_path_6 ?_
  refine z_aload_n K dX1_path_7 rfl rfl rfl ?_
  refine z_callV K (jl_size (sH_l0 (by omega))) cV_X1_43_J2 (sH_l0 (by omega)) rfl rfl rfl (by omega) (by omega) (by omega) (Nat.le_of_ble_eq_true rfl) dX1_path_8 zrX (zrK ?_)
  refine j_iconst K dX1_path_11 ?_
  refine j_isub K dX1_path_12 ?_
  refine z_callS K (x1_inG (x := i) (a := 0) (b := ((pthS (u 0) (oB 0) rd st).length : Int) - 1) hi (by omega) (by omega)) cS_X1_3 rfl rfl (by omega) (by omega) (by omega) (Nat.le_of_ble_eq_true rfl) dX1_path_13 zrX (zrK ?_)
  refine z_callS K (x1_checkElement (N := N + 8) hC2.am (b01r _) hC2.fr (by omega)) cS_X1_152 rfl rfl (by omega) (by omega) (by omega) (Nat.le_of_ble_eq_true rfl) dX1_path_16 (ckX fun ck_16 => z_out K rfl (by omega) (by omega) (hex1 _ (fun q => ck_16 (by rw [if_pos q]; decide)))) (ckK fun ck_16 => ?_)
  have ck := bI_n ck_16
  have hpi := hp i.toNat (by omega)
  refine z_aload_n K dX1_path_19 rfl rfl rfl ?_
  refine z_iload_n K dX1_path_20 rfl rfl ?_
  refine z_callV K (jl_getS (f := fun i => b + 52 + (pthF (u 0) (oB 0) rd st i).toNat) (by omega) (by omega) (by omega)) cV_X1_53_J2 (sH_l0 (by omega)) rfl rfl rfl (by omega) (by omega) (by omega) (Nat.le_of_ble_eq_true rfl) dX1_path_21 zrX (zrK ?_)
  refine z_castS K (sH_op ⟨by omega, by omega⟩ (by omega)) rfl q468 dX1_path_24 ?_
  refine z_get K fd_X1_199_5 (sH_op ⟨by omega, by omega⟩ (by omega)) rfl dX1_path_27 ?_
  exact z_iret K (by omega) (by omega) (hok1 ck) dX1_path_30
end XO7

