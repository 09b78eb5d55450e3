/-! ===== the component: place, isScheduled ===== -/
section XSe
variable {b : Nat} {u : tW} {g : zH}
/-- what place leaves -/
def wPl (u : tW) (k : Nat) (r v e : Int) (M : Nat) (x : Int) : tW := tset (tset (tset (tset (tset u 2 k r) 3 k v) 4 k e) 5 0 x) 5 1 M
theorem x2_place {k : Int} {s o rd st : Nat → Int} {hd hu : Int} (hb : 1000 ≤ b) (hA : WfA (u 0)) (hO : WfO (u 0)) (hB : BkOk b u g) (hk : 0 ≤ k ∧ k < u 0 1) (hS : SR s o hd hu rd st u) (hd1 : -1 ≤ hd ∧ hd ≤ 100) (hu1 : 0 ≤ hu ∧ hu ≤ 3000) (hst : st k.toNat < 0) (hbb : sBef s k = -1 ∨ (0 ≤ st (sBef s k).toNat ∧ st (sBef s k).toNat ≤ 10000)) (haa : sAh s o k = -1 ∨ (0 ≤ st (sAh s o k).toNat ∧ st (sAh s o k).toNat ≤ 10000)) (hmx : u 5 0 ≤ 20000) (hbo : sAh s o k = -1 ∨ (0 ≤ sAh s o k ∧ sAh s o k < s 1)) :
    zMet yX2_place (ws_ yX2_place cX2_place 5 none) 5 [.ref b, .ref (b + 52 + k.toNat)] (sH b u g) (fun z h' => ∃ u', z = .inl none ∧ h' = sH b u' g ∧ SK u u' ∧ SR s o hd hu (sup rd k.toNat (sRdy s o (fun i => st i.toNat) k)) (sup st k.toNat (sFree s (sMc s k) (sFrom hd hu k (sRdy s o (fun i => st i.toNat) k)) (sDu s k))) u') 0 0 := by
  obtain ⟨rfl, hS1, hS2, hS3, hS4, hS5, hS6⟩ := hS
  have h20 := hA.2.1.1
  have h05 := hA.1.1
  have hJ := hA.1
  obtain ⟨a1, a2, a3, a4, a5, a6⟩ := hA.2.1.2 k hk.1 hk.2
  have hrel := (hA.1.2 _ a1.1 a1.2).1
  have hbf := sBef_ok hA hk.1 hk.2
  have hah := hS1 k hk.1 hk.2
  -- the ready time and its bounds
  have hbe : sBef (u 0) k ≠ -1 → u 4 (sBef (u 0) k).toNat = st (sBef (u 0) k).toNat + sDu (u 0) (sBef (u 0) k) ∧ (0 ≤ sBef (u 0) k ∧ sBef (u 0) k < u 0 1) ∧ 0 ≤ u 4 (sBef (u 0) k).toNat ∧ u 4 (sBef (u 0) k).toNat ≤ 10030 := fun hne => by
    obtain ⟨c1, -⟩ := hbf.resolve_left hne
    have c2 := hbb.resolve_left hne
    have c3 := hS2 (sBef (u 0) k).toNat (by omega) c2.1
    have c4 := (hA.2.1.2 _ c1.1 c1.2).2.2.1
    rw [show (((sBef (u 0) k).toNat : Nat) : Int) = sBef (u 0) k by omega] at c3
    exact ⟨c3.2.2, c1, by rw [c3.2.2]; (try dsimp only [sRel, sDue, sWt, sLen, sSeq, sJb, sMc, sDu, sFa, sIx, sSu, sBn, sBf, sBl, sOn, sOr] at *); omega, by rw [c3.2.2]; (try dsimp only [sRel, sDue, sWt, sLen, sSeq, sJb, sMc, sDu, sFa, sIx, sSu, sBn, sBf, sBl, sOn, sOr] at *); omega⟩
  have hae : sAh (u 0) o k ≠ -1 → u 4 (sAh (u 0) o k).toNat = st (sAh (u 0) o k).toNat + sDu (u 0) (sAh (u 0) o k) ∧ (0 ≤ sAh (u 0) o k ∧ sAh (u 0) o k < u 0 1) ∧ (0 ≤ u 4 (sAh (u 0) o k).toNat ∧ u 4 (sAh (u 0) o k).toNat ≤ 10030) ∧ 0 ≤ sSu (u 0) (sAh (u 0) o k) k ∧ sSu (u 0) (sAh (u 0) o k) k ≤ 9 := fun hne => by
    have c1 := hbo.resolve_left hne
    have c2 := haa.resolve_left hne
    have c3 := hS2 (sAh (u 0) o k).toNat (by omega) c2.1
    have c4 := (hA.2.1.2 _ c1.1 c1.2).2.2.1
    have c5 := (hA.su c1 hk).2.2
    rw [show (((sAh (u 0) o k).toNat : Nat) : Int) = sAh (u 0) o k by omega] at c3
    exact ⟨c3.2.2, c1, ⟨by rw [c3.2.2]; (try dsimp only [sRel, sDue, sWt, sLen, sSeq, sJb, sMc, sDu, sFa, sIx, sSu, sBn, sBf, sBl, sOn, sOr] at *); omega, by rw [c3.2.2]; (try dsimp only [sRel, sDue, sWt, sLen, sSeq, sJb, sMc, sDu, sFa, sIx, sSu, sBn, sBf, sBl, sOn, sOr] at *); omega⟩, c5⟩
  generalize hR : sRdy (u 0) o (fun i => st i.toNat) k = R
  have hRr : 0 ≤ R ∧ R ≤ 10039 := by
    rw [← hR]
    unfold sRdy
    dsimp only
    have e1 : (if sBef (u 0) k = -1 then sRel (u 0) (sJb (u 0) k) else st (sBef (u 0) k).toNat + sDu (u 0) (sBef (u 0) k)) ≤ 10039 := by
      split
      · omega
      · next q => obtain ⟨c1, -, c2, c3⟩ := hbe q; omega
    have e2 : (if sAh (u 0) o k = -1 then sRel (u 0) (sJb (u 0) k) else st (sAh (u 0) o k).toNat + sDu (u 0) (sAh (u 0) o k) + sSu (u 0) (sAh (u 0) o k) k) ≤ 10039 := by
      split
      · omega
      · next q => obtain ⟨c1, -, c2, c3⟩ := hae q; omega
    omega
  have hF : R ≤ sFrom hd hu k R ∧ sFrom hd hu k R ≤ 13039 := by unfold sFrom; split <;> omega
  have hv := sFree_ok hA.2.2.2.2.2 (f := sFrom hd hu k R) (d := sDu (u 0) k) a2
  generalize hV : sFree (u 0) (sMc (u 0) k) (sFrom hd hu k R) (sDu (u 0) k) = V
  rw [hV] at hv
  have hV1 := hv.le hA.2.2.2.2.2 a2
  have hV0 := hv.1
  have hVr : 0 ≤ V ∧ V ≤ 13039 := by omega
  have hMb := dnM_bit (st := st) (k := k.toNat) (u 0 1).toNat (by omega)
  have hMl := dnM_lt st (u 0 1).toNat
  have hMp : 2 ^ (u 0 1).toNat ≤ 2 ^ 20 := Nat.pow_le_pow_right (by omega) (by omega)
  have h31 : (2 : Nat) ^ 20 < 2 ^ 31 := by decide
  have hg0 := gMx_0 (u 0) st (u 0 1).toNat
  rw [if_neg (by omega)] at hMb
  have hor := or_k (M := dnM st (u 0 1).toNat) (k := k.toNat) (by omega) (by omega) hMb
  have h1k := sh_1 k.toNat (by omega)
  rw [show ((k.toNat : Nat) : Int) = k by omega] at h1k
  have fin : ∀ X : zX, zK yX2_place cX2_place 5 none [] 5 0 0 X → ∀ (R' : Int), R' = R → ∀ env, zsub env [(0, .ref b), (1, .ref (b + 52 + k.toNat)), (2, .int (iI R'))] → zW X (fun z h' => ∃ u', z = .inl none ∧ h' = sH b u' g ∧ SK u u' ∧ SR (u 0) o hd hu (sup rd k.toNat R) (sup st k.toNat V) u') (sH b u g) 0 0 87 env [] := by
    intro X K R' hR' env he
    subst hR'
    refine zW.cut he ?_
    have hend : ∀ a1 : Int, SK u (wPl u k.toNat R' V (V + sDu (u 0) k) (dnM st (u 0 1).toNat + 2 ^ k.toNat) (max (gMx (u 0) st (u 0 1).toNat) (V + sDu (u 0) k))) ∧ SR (u 0) o hd hu (sup rd k.toNat R') (sup st k.toNat V) (wPl u k.toNat R' V (V + sDu (u 0) k) (dnM st (u 0 1).toNat + 2 ^ k.toNat) (max (gMx (u 0) st (u 0 1).toNat) (V + sDu (u 0) k))) := fun _ => by
      refine ⟨((((SK.ts (by omega)).tr (SK.ts (by omega))).tr (SK.ts (by omega))).tr (SK.ts (by omega))).tr (SK.ts (by omega)), ?_⟩
      unfold wPl
      refine ⟨?_, fun q q0 q1 => ?_, fun q q1 q2 => ?_, ?_, ?_, ?_, ?_⟩
      · rw [tsG (by decide), tsG (by decide), tsG (by decide), tsG (by decide), tsG (by decide)]
      · rw [tsF (by decide), tsF (by decide), tsF (by decide), tsF (by decide), tsF (by decide)]
        exact hS1 q q0 q1
      · by_cases e : q = k.toNat
        · subst e
          rw [sup_s, sup_s, tsF (by decide), tsF (by decide), tsF (by decide), tsF (by decide), tsS, tsF (by decide), tsF (by decide), tsF (by decide), tsS, tsF (by decide), tsF (by decide), tsS, show ((k.toNat : Nat) : Int) = k by omega]
          exact ⟨rfl, rfl, rfl⟩
        · rw [sup_n e] at q2 ⊢
          rw [sup_n e, tsF (by decide), tsF (by decide), tsF (by decide), tsF (by decide), tsN e, tsF (by decide), tsF (by decide), tsF (by decide), tsN e, tsF (by decide), tsF (by decide), tsF (by decide), tsN e, tsF (by decide), tsF (by decide)]
          exact hS2 q q1 q2
      · rw [tsS, dnM_sup hst hVr.1 _ (by omega)]
      · rw [tsN (by decide), tsS, gMx_sup hst hVr.1 (by rw [show ((k.toNat : Nat) : Int) = k by omega]; (try dsimp only [sRel, sDue, sWt, sLen, sSeq, sJb, sMc, sDu, sFa, sIx, sSu, sBn, sBf, sBl, sOn, sOr] at *); omega) _ (by omega), show ((k.toNat : Nat) : Int) = k by omega]
      · rw [tsN (by decide), tsN (by decide), tsF (by decide), tsF (by decide), tsF (by decide)]; exact hS5
      · rw [tsN (by decide), tsN (by decide), tsF (by decide), tsF (by decide), tsF (by decide)]; exact hS6
    unfold wPl at hend
    have q2e : tset u 2 k.toNat R' 0 = u 0 := tsG (by decide)
    have hBu : BkOk b (tset u 2 k.toNat R') g := (SK.ts (by omega)).bk hB
    have un := fun f hf => x2_unhindered (b := b) (u := tset u 2 k.toNat R') (g := g) (k := k) (f := f) (by rw [q2e]; exact hA) hBu (by rw [q2e]; exact hk) hf
    rw [q2e] at un
    have hV2 : ∀ f, f = sFrom hd hu k R' → sFree (u 0) (u 0 (62 + k).toNat) f (u 0 (82 + k).toNat) = V := fun f e => by rw [e]; exact hV
    have pc : ∀ (u9 : tW), u9 0 = u 0 → sH b u9 g (b + 52 + k.toNat) = some (.inr (5, [.int (iI k), .int (iI (u 0 (42 + k).toNat)), .int (iI (u 0 (62 + k).toNat)), .int (iI (u 0 (102 + k).toNat)), .int (iI (u 0 (122 + k).toNat)), .int (iI (u 0 (82 + k).toNat))])) := fun u9 e => by
      have := sH_op (b := b) (u := u9) (g := g) (k := k) (by rw [e]; exact hk) (by rw [e]; omega)
      rw [e] at this
      exact this
    (try dsimp only [sRel, sDue, sWt, sLen, sSeq, sJb, sMc, sDu, sFa, sIx, sSu, sBn, sBf, sBl, sOn, sOr] at *)
    refine z_aload_n K dX2_place_87 rfl rfl rfl ?_
    refine z_get K fd_X2_34_2 (sH_shop) rfl dX2_place_88 ?_
    refine z_aload_n K dX2_place_91 rfl rfl rfl ?_
    refine z_get K fd_X2_115_5 (pc _ (by first | rfl | exact tsG (by decide) | exact (tsG (by decide)).trans (tsG (by decide)) | exact (tsG (by decide)).trans ((tsG (by decide)).trans (tsG (by decide))) | exact (tsG (by decide)).trans ((tsG (by decide)).trans ((tsG (by decide)).trans (tsG (by decide)))))) rfl dX2_place_92 ?_
    refine z_iload_n K dX2_place_95 rfl rfl ?_
    refine j_istE K (sH_29) (by omega) (by omega) (by omega) dX2_place_96 (sH_t2) ?_
    refine z_aload_n K dX2_place_97 rfl rfl rfl ?_
    refine z_get K fd_X2_37_2 (sH_shop) rfl dX2_place_98 ?_
    refine z_aload_n K dX2_place_101 rfl rfl rfl ?_
    refine z_get K fd_X2_115_5 (pc _ (by first | rfl | exact tsG (by decide) | exact (tsG (by decide)).trans (tsG (by decide)) | exact (tsG (by decide)).trans ((tsG (by decide)).trans (tsG (by decide))) | exact (tsG (by decide)).trans ((tsG (by decide)).trans ((tsG (by decide)).trans (tsG (by decide)))))) rfl dX2_place_102 ?_
    refine z_aload_n K dX2_place_105 rfl rfl rfl ?_
    refine z_aload_n K dX2_place_106 rfl rfl rfl ?_
    refine z_aload_n K dX2_place_107 rfl rfl rfl ?_
    refine z_get K fd_X2_115_5 (pc _ (by first | rfl | exact tsG (by decide) | exact (tsG (by decide)).trans (tsG (by decide)) | exact (tsG (by decide)).trans ((tsG (by decide)).trans (tsG (by decide))) | exact (tsG (by decide)).trans ((tsG (by decide)).trans ((tsG (by decide)).trans (tsG (by decide)))))) rfl dX2_place_108 ?_
    refine z_aload_n K dX2_place_111 rfl rfl rfl ?_
    refine z_get K fd_X2_43_2 (sH_shop) rfl dX2_place_112 ?_
    rw [show tset u 2 k.toNat R' 5 2 = hd from (tsF (by decide)).trans hS5]
    refine j_icmp_ne (tgt := 129) K dX2_place_115 rfl (by omega) (by omega) (fun c_115 => ?_) (fun c_115 => ?_)
    · refine z_iload_n K dX2_place_129 rfl rfl ?_
      refine z_callV K (un _ (by omega)) cV_X2_160_X2 (sH_shop) rfl rfl rfl (by omega) (by omega) (by omega) (Nat.le_of_ble_eq_true rfl) dX2_place_130 zrX (zrK ?_)
      rw [hV2 _ (by unfold sFrom; first | rw [if_neg c_115] | rw [if_pos c_115])]
      refine j_istE K (sH_30) (by omega) (by omega) (by omega) dX2_place_133 (sH_t3) ?_
      refine z_aload_n K dX2_place_134 rfl rfl rfl ?_
      refine z_get K fd_X2_40_2 (sH_shop) rfl dX2_place_135 ?_
      refine z_aload_n K dX2_place_138 rfl rfl rfl ?_
      refine z_get K fd_X2_115_5 (pc _ (by first | rfl | exact tsG (by decide) | exact (tsG (by decide)).trans (tsG (by decide)) | exact (tsG (by decide)).trans ((tsG (by decide)).trans (tsG (by decide))) | exact (tsG (by decide)).trans ((tsG (by decide)).trans ((tsG (by decide)).trans (tsG (by decide)))))) rfl dX2_place_139 ?_
      refine z_aload_n K dX2_place_142 rfl rfl rfl ?_
      refine z_get K fd_X2_37_2 (sH_shop) rfl dX2_place_143 ?_
      refine z_aload_n K dX2_place_146 rfl rfl rfl ?_
      refine z_get K fd_X2_115_5 (pc _ (by first | rfl | exact tsG (by decide) | exact (tsG (by decide)).trans (tsG (by decide)) | exact (tsG (by decide)).trans ((tsG (by decide)).trans (tsG (by decide))) | exact (tsG (by decide)).trans ((tsG (by decide)).trans ((tsG (by decide)).trans (tsG (by decide)))))) rfl dX2_place_147 ?_
      refine j_ild K (sH_30) (by omega) (by omega) dX2_place_150 ?_
      rw [tsS]
      refine z_aload_n K dX2_place_151 rfl rfl rfl ?_
      refine z_get K fd_X2_85_5 (pc _ (by first | rfl | exact tsG (by decide) | exact (tsG (by decide)).trans (tsG (by decide)) | exact (tsG (by decide)).trans ((tsG (by decide)).trans (tsG (by decide))) | exact (tsG (by decide)).trans ((tsG (by decide)).trans ((tsG (by decide)).trans (tsG (by decide)))))) rfl dX2_place_152 ?_
      refine j_iadd K dX2_place_155 ?_
      refine j_istE K (sH_31) (by omega) (by omega) (by omega) dX2_place_156 (sH_t4) ?_
      refine z_aload_n K dX2_place_157 rfl rfl rfl ?_
      refine z_aload_n K dX2_place_158 rfl rfl rfl ?_
      refine z_get K fd_X2_164_2 (sH_shop) rfl dX2_place_159 ?_
      rw [show tset (tset (tset u 2 k.toNat R') 3 k.toNat V) 4 k.toNat (V + u 0 (82 + k).toNat) 5 0 = gMx (u 0) st (u 0 1).toNat from ((tsF (by decide)).trans ((tsF (by decide)).trans (tsF (by decide)))).trans hS4]
      refine z_aload_n K dX2_place_162 rfl rfl rfl ?_
      refine z_get K fd_X2_40_2 (sH_shop) rfl dX2_place_163 ?_
      refine z_aload_n K dX2_place_166 rfl rfl rfl ?_
      refine z_get K fd_X2_115_5 (pc _ (by first | rfl | exact tsG (by decide) | exact (tsG (by decide)).trans (tsG (by decide)) | exact (tsG (by decide)).trans ((tsG (by decide)).trans (tsG (by decide))) | exact (tsG (by decide)).trans ((tsG (by decide)).trans ((tsG (by decide)).trans (tsG (by decide)))))) rfl dX2_place_167 ?_
      refine j_ild K (sH_31) (by omega) (by omega) dX2_place_170 ?_
      rw [tsS]
      refine z_callS K ((s_max (by omega) (by omega)).r) cS_X2_147 rfl rfl (by omega) (by omega) (by omega) (Nat.le_of_ble_eq_true rfl) dX2_place_171 zrX (zrK ?_)
      refine z_putE K fd_X2_164_2 ⟨_, rfl, Or.inl rfl⟩ (sH_shop) (by omega) (Nat.le_of_ble_eq_true rfl) (zf_i) dX2_place_174 (sH_n0) ?_
      refine z_aload_n K dX2_place_177 rfl rfl rfl ?_
      refine z_dup K dX2_place_178 rfl ?_
      refine z_get K fd_X2_137_2 (sH_shop) rfl dX2_place_179 ?_
      rw [show tset (tset (tset (tset u 2 k.toNat R') 3 k.toNat V) 4 k.toNat (V + u 0 (82 + k).toNat)) 5 0 (max (gMx (u 0) st (u 0 1).toNat) (V + u 0 (82 + k).toNat)) 5 1 = (dnM st (u 0 1).toNat : Nat) from ((tsN (by decide)).trans ((tsF (by decide)).trans ((tsF (by decide)).trans (tsF (by decide))))).trans hS3]
      refine j_iconst K dX2_place_182 ?_
      refine z_aload_n K dX2_place_183 rfl rfl rfl ?_
      refine z_get K fd_X2_115_5 (pc _ (by first | rfl | exact tsG (by decide) | exact (tsG (by decide)).trans (tsG (by decide)) | exact (tsG (by decide)).trans ((tsG (by decide)).trans (tsG (by decide))) | exact (tsG (by decide)).trans ((tsG (by decide)).trans ((tsG (by decide)).trans (tsG (by decide)))))) rfl dX2_place_184 ?_
      refine z_ishl K dX2_place_187 ?_
      rw [h1k]
      refine z_ior K dX2_place_188 ?_
      rw [hor]
      refine z_putE K fd_X2_137_2 ⟨_, rfl, Or.inl rfl⟩ (sH_shop) (by omega) (Nat.le_of_ble_eq_true rfl) (zf_i) dX2_place_189 (sH_n1) ?_
      exact z_vret K (by omega) (by omega) (⟨_, rfl, rfl, hend 0⟩) dX2_place_192
    · refine z_iload_n K dX2_place_118 rfl rfl ?_
      refine z_aload_n K dX2_place_119 rfl rfl rfl ?_
      refine z_get K fd_X2_157_2 (sH_shop) rfl dX2_place_120 ?_
      rw [show tset u 2 k.toNat R' 5 3 = hu from (tsF (by decide)).trans hS6]
      refine z_callS K ((s_max (by omega) (by omega)).r) cS_X2_147 rfl rfl (by omega) (by omega) (by omega) (Nat.le_of_ble_eq_true rfl) dX2_place_123 zrX (zrK ?_)
      refine z_goto (tgt := 130) K dX2_place_126 rfl ?_
      refine z_callV K (un _ (by omega)) cV_X2_160_X2 (sH_shop) rfl rfl rfl (by omega) (by omega) (by omega) (Nat.le_of_ble_eq_true rfl) dX2_place_130 zrX (zrK ?_)
      rw [hV2 _ (by unfold sFrom; first | rw [if_neg c_115] | rw [if_pos c_115])]
      refine j_istE K (sH_30) (by omega) (by omega) (by omega) dX2_place_133 (sH_t3) ?_
      refine z_aload_n K dX2_place_134 rfl rfl rfl ?_
      refine z_get K fd_X2_40_2 (sH_shop) rfl dX2_place_135 ?_
      refine z_aload_n K dX2_place_138 rfl rfl rfl ?_
      refine z_get K fd_X2_115_5 (pc _ (by first | rfl | exact tsG (by decide) | exact (tsG (by decide)).trans (tsG (by decide)) | exact (tsG (by decide)).trans ((tsG (by decide)).trans (tsG (by decide))) | exact (tsG (by decide)).trans ((tsG (by decide)).trans ((tsG (by decide)).trans (tsG (by decide)))))) rfl dX2_place_139 ?_
      refine z_aload_n K dX2_place_142 rfl rfl rfl ?_
      refine z_get K fd_X2_37_2 (sH_shop) rfl dX2_place_143 ?_
      refine z_aload_n K dX2_place_146 rfl rfl rfl ?_
      refine z_get K fd_X2_115_5 (pc _ (by first | rfl | exact tsG (by decide) | exact (tsG (by decide)).trans (tsG (by decide)) | exact (tsG (by decide)).trans ((tsG (by decide)).trans (tsG (by decide))) | exact (tsG (by decide)).trans ((tsG (by decide)).trans ((tsG (by decide)).trans (tsG (by decide)))))) rfl dX2_place_147 ?_
      refine j_ild K (sH_30) (by omega) (by omega) dX2_place_150 ?_
      rw [tsS]
      refine z_aload_n K dX2_place_151 rfl rfl rfl ?_
      refine z_get K fd_X2_85_5 (pc _ (by first | rfl | exact tsG (by decide) | exact (tsG (by decide)).trans (tsG (by decide)) | exact (tsG (by decide)).trans ((tsG (by decide)).trans (tsG (by decide))) | exact (tsG (by decide)).trans ((tsG (by decide)).trans ((tsG (by decide)).trans (tsG (by decide)))))) rfl dX2_place_152 ?_
      refine j_iadd K dX2_place_155 ?_
      refine j_istE K (sH_31) (by omega) (by omega) (by omega) dX2_place_156 (sH_t4) ?_
      refine z_aload_n K dX2_place_157 rfl rfl rfl ?_
      refine z_aload_n K dX2_place_158 rfl rfl rfl ?_
      refine z_get K fd_X2_164_2 (sH_shop) rfl dX2_place_159 ?_
      rw [show tset (tset (tset u 2 k.toNat R') 3 k.toNat V) 4 k.toNat (V + u 0 (82 + k).toNat) 5 0 = gMx (u 0) st (u 0 1).toNat from ((tsF (by decide)).trans ((tsF (by decide)).trans (tsF (by decide)))).trans hS4]
      refine z_aload_n K dX2_place_162 rfl rfl rfl ?_
      refine z_get K fd_X2_40_2 (sH_shop) rfl dX2_place_163 ?_
      refine z_aload_n K dX2_place_166 rfl rfl rfl ?_
      refine z_get K fd_X2_115_5 (pc _ (by first | rfl | exact tsG (by decide) | exact (tsG (by decide)).trans (tsG (by decide)) | exact (tsG (by decide)).trans ((tsG (by decide)).trans (tsG (by decide))) | exact (tsG (by decide)).trans ((tsG (by decide)).trans ((tsG (by decide)).trans (tsG (by decide)))))) rfl dX2_place_167 ?_
      refine j_ild K (sH_31) (by omega) (by omega) dX2_place_170 ?_
      rw [tsS]
      refine z_callS K ((s_max (by omega) (by omega)).r) cS_X2_147 rfl rfl (by omega) (by omega) (by omega) (Nat.le_of_ble_eq_true rfl) dX2_place_171 zrX (zrK ?_)
      refine z_putE K fd_X2_164_2 ⟨_, rfl, Or.inl rfl⟩ (sH_shop) (by omega) (Nat.le_of_ble_eq_true rfl) (zf_i) dX2_place_174 (sH_n0) ?_
      refine z_aload_n K dX2_place_177 rfl rfl rfl ?_
      refine z_dup K dX2_place_178 rfl ?_
      refine z_get K fd_X2_137_2 (sH_shop) rfl dX2_place_179 ?_
      rw [show tset (tset (tset (tset u 2 k.toNat R') 3 k.toNat V) 4 k.toNat (V + u 0 (82 + k).toNat)) 5 0 (max (gMx (u 0) st (u 0 1).toNat) (V + u 0 (82 + k).toNat)) 5 1 = (dnM st (u 0 1).toNat : Nat) from ((tsN (by decide)).trans ((tsF (by decide)).trans ((tsF (by decide)).trans (tsF (by decide))))).trans hS3]
      refine j_iconst K dX2_place_182 ?_
      refine z_aload_n K dX2_place_183 rfl rfl rfl ?_
      refine z_get K fd_X2_115_5 (pc _ (by first | rfl | exact tsG (by decide) | exact (tsG (by decide)).trans (tsG (by decide)) | exact (tsG (by decide)).trans ((tsG (by decide)).trans (tsG (by decide))) | exact (tsG (by decide)).trans ((tsG (by decide)).trans ((tsG (by decide)).trans (tsG (by decide)))))) rfl dX2_place_184 ?_
      refine z_ishl K dX2_place_187 ?_
      rw [h1k]
      refine z_ior K dX2_place_188 ?_
      rw [hor]
      refine z_putE K fd_X2_137_2 ⟨_, rfl, Or.inl rfl⟩ (sH_shop) (by omega) (Nat.le_of_ble_eq_true rfl) (zf_i) dX2_place_189 (sH_n1) ?_
      exact z_vret K (by omega) (by omega) (⟨_, rfl, rfl, hend 0⟩) dX2_place_192
  refine zMet.of (by decide) (Nat.le_of_ble_eq_true rfl) fun X K => ?_
  have fin := fin X K
  have hRu : R = max (max (sRel (u 0) (sJb (u 0) k)) (if sBef (u 0) k = -1 then sRel (u 0) (sJb (u 0) k) else st (sBef (u 0) k).toNat + sDu (u 0) (sBef (u 0) k))) (if sAh (u 0) o k = -1 then sRel (u 0) (sJb (u 0) k) else st (sAh (u 0) o k).toNat + sDu (u 0) (sAh (u 0) o k) + sSu (u 0) (sAh (u 0) o k) k) := hR.symm
  generalize hx : sAh (u 0) o k = x at *
  have h40 : ∀ T : Int, T = max (sRel (u 0) (sJb (u 0) k)) (if sBef (u 0) k = -1 then sRel (u 0) (sJb (u 0) k) else st (sBef (u 0) k).toNat + sDu (u 0) (sBef (u 0) k)) → 0 ≤ T → T ≤ 10039 → ∀ env, zsub env [(0, .ref b), (1, .ref (b + 52 + k.toNat)), (2, .int (iI T))] → zW X (fun z h' => ∃ u', z = .inl none ∧ h' = sH b u' g ∧ SK u u' ∧ SR (u 0) o hd hu (sup rd k.toNat R) (sup st k.toNat V) u') (sH b u g) 0 0 40 env [] := by
    intro T hT T0 T1 env he
    refine zW.cut he ?_
    by_cases hz : x = -1
    · rw [if_pos hz, ← hT] at hRu
      (try dsimp only [sRel, sDue, sWt, sLen, sSeq, sJb, sMc, sDu, sFa, sIx, sSu, sBn, sBf, sBl, sOn, sOr] at *)
      refine z_aload_n K dX2_place_40 rfl rfl rfl ?_
      refine z_get K fd_X2_31_2 (sH_shop) rfl dX2_place_41 ?_
      refine z_aload_n K dX2_place_44 rfl rfl rfl ?_
      refine z_get K fd_X2_115_5 (sH_op ⟨by omega, by omega⟩ (by omega)) rfl dX2_place_45 ?_
      refine j_ild K (sH_28) (by omega) (by omega) dX2_place_48 ?_
      rw [hah]
      refine z_istore K dX2_place_49 (by decide) rfl ?_
      refine z_iload K dX2_place_51 rfl ?_
      refine j_iconst K dX2_place_53 ?_
      refine j_icmp_eq (tgt := 87) K dX2_place_54 rfl (by omega) (by omega) (fun c_54 => ?_) (fun c_54 => ?_)
      · exact fin T (by omega) _ ⟨rfl, rfl, rfl, trivial⟩
      · exact absurd hz c_54
    · obtain ⟨c1, c2, c3, c4⟩ := hae hz
      rw [if_neg hz, ← hT, ← c1] at hRu
      have hsu := x2_setup (b := b) (u := u) (g := g) hA c2 hk
      (try dsimp only [sRel, sDue, sWt, sLen, sSeq, sJb, sMc, sDu, sFa, sIx, sSu, sBn, sBf, sBl, sOn, sOr] at *)
      refine z_aload_n K dX2_place_40 rfl rfl rfl ?_
      refine z_get K fd_X2_31_2 (sH_shop) rfl dX2_place_41 ?_
      refine z_aload_n K dX2_place_44 rfl rfl rfl ?_
      refine z_get K fd_X2_115_5 (sH_op ⟨by omega, by omega⟩ (by omega)) rfl dX2_place_45 ?_
      refine j_ild K (sH_28) (by omega) (by omega) dX2_place_48 ?_
      rw [hah]
      refine z_istore K dX2_place_49 (by decide) rfl ?_
      refine z_iload K dX2_place_51 rfl ?_
      refine j_iconst K dX2_place_53 ?_
      refine j_icmp_eq (tgt := 87) K dX2_place_54 rfl (by omega) (by omega) (fun c_54 => ?_) (fun c_54 => ?_)
      · exact absurd c_54 hz
      · refine z_iload_n K dX2_place_57 rfl rfl ?_
        refine z_aload_n K dX2_place_58 rfl rfl rfl ?_
        refine z_get K fd_X2_40_2 (sH_shop) rfl dX2_place_59 ?_
        refine z_iload K dX2_place_62 rfl ?_
        refine j_ild K (sH_31) (by omega) (by omega) dX2_place_64 ?_
        refine z_aload_n K dX2_place_65 rfl rfl rfl ?_
        refine z_aload_n K dX2_place_66 rfl rfl rfl ?_
        refine z_get K fd_X2_18_2 (sH_shop) rfl dX2_place_67 ?_
        refine z_iload K dX2_place_70 rfl ?_
        refine z_callV K (gt_ops ⟨by omega, by omega⟩ (by omega)) cV_X2_59_J2 (sH_ops) rfl rfl rfl (by omega) (by omega) (by omega) (Nat.le_of_ble_eq_true rfl) dX2_place_72 zrX (zrK ?_)
        refine z_castS K (sH_op ⟨by omega, by omega⟩ (by omega)) rfl q408 dX2_place_75 ?_
        refine z_aload_n K dX2_place_78 rfl rfl rfl ?_
        refine z_callV K (hsu) cV_X2_153_X2 (sH_shop) rfl rfl rfl (by omega) (by omega) (by omega) (Nat.le_of_ble_eq_true rfl) dX2_place_79 zrX (zrK ?_)
        refine j_iadd K dX2_place_82 ?_
        refine z_callS K ((s_max (by omega) (by omega)).r) cS_X2_147 rfl rfl (by omega) (by omega) (by omega) (Nat.le_of_ble_eq_true rfl) dX2_place_83 zrX (zrK ?_)
        refine z_istore_n K dX2_place_86 rfl (by decide) rfl ?_
        exact fin _ hRu.symm _ ⟨rfl, rfl, rfl, trivial⟩
  have hea := x2_earlier (b := b) (u := u) (g := g) hA hk
  by_cases hz : sBef (u 0) k = -1
  · rw [hz] at hea
    rw [if_pos hz] at h40
    (try dsimp only [sRel, sDue, sWt, sLen, sSeq, sJb, sMc, sDu, sFa, sIx, sSu, sBn, sBf, sBl, sOn, sOr] at *)
    refine z_aload_n K dX2_place_0 rfl rfl rfl ?_
    refine z_get K fd_X2_12_2 (sH_shop) rfl dX2_place_1 ?_
    refine z_aload_n K dX2_place_4 rfl rfl rfl ?_
    refine z_get K fd_X2_79_5 (sH_op ⟨by omega, by omega⟩ (by omega)) rfl dX2_place_5 ?_
    refine z_callV K (gt_jobs ⟨by omega, by omega⟩ (by omega)) cV_X2_59_J2 (sH_jobs) rfl rfl rfl (by omega) (by omega) (by omega) (Nat.le_of_ble_eq_true rfl) dX2_place_8 zrX (zrK ?_)
    refine z_castS K (sH_job ⟨by omega, by omega⟩ (by omega)) rfl q417 dX2_place_11 ?_
    refine z_callV K (x5_release ⟨by omega, by omega⟩ (by omega)) cV_X2_65_X5 (sH_job ⟨by omega, by omega⟩ (by omega)) rfl rfl rfl (by omega) (by omega) (by omega) (Nat.le_of_ble_eq_true rfl) dX2_place_14 zrX (zrK ?_)
    refine z_istore_n K dX2_place_17 rfl (by decide) rfl ?_
    refine z_aload_n K dX2_place_18 rfl rfl rfl ?_
    refine z_aload_n K dX2_place_19 rfl rfl rfl ?_
    refine z_callV K (hea) cV_X2_143_X2 (sH_shop) rfl rfl rfl (by omega) (by omega) (by omega) (Nat.le_of_ble_eq_true rfl) dX2_place_20 zrX (zrK ?_)
    refine z_istore_n K dX2_place_23 rfl (by decide) rfl ?_
    refine z_iload_n K dX2_place_24 rfl rfl ?_
    refine j_iconst K dX2_place_25 ?_
    refine j_icmp_eq (tgt := 40) K dX2_place_26 rfl (by omega) (by omega) (fun c_26 => ?_) (fun c_26 => ?_)
    · exact h40 _ (by omega) (by omega) (by omega) _ ⟨rfl, rfl, rfl, trivial⟩
    · exact absurd rfl c_26
  · obtain ⟨c1, c2, c3, c4⟩ := hbe hz
    rw [if_neg hz, ← c1] at h40
    (try dsimp only [sRel, sDue, sWt, sLen, sSeq, sJb, sMc, sDu, sFa, sIx, sSu, sBn, sBf, sBl, sOn, sOr] at *)
    refine z_aload_n K dX2_place_0 rfl rfl rfl ?_
    refine z_get K fd_X2_12_2 (sH_shop) rfl dX2_place_1 ?_
    refine z_aload_n K dX2_place_4 rfl rfl rfl ?_
    refine z_get K fd_X2_79_5 (sH_op ⟨by omega, by omega⟩ (by omega)) rfl dX2_place_5 ?_
    refine z_callV K (gt_jobs ⟨by omega, by omega⟩ (by omega)) cV_X2_59_J2 (sH_jobs) rfl rfl rfl (by omega) (by omega) (by omega) (Nat.le_of_ble_eq_true rfl) dX2_place_8 zrX (zrK ?_)
    refine z_castS K (sH_job ⟨by omega, by omega⟩ (by omega)) rfl q417 dX2_place_11 ?_
    refine z_callV K (x5_release ⟨by omega, by omega⟩ (by omega)) cV_X2_65_X5 (sH_job ⟨by omega, by omega⟩ (by omega)) rfl rfl rfl (by omega) (by omega) (by omega) (Nat.le_of_ble_eq_true rfl) dX2_place_14 zrX (zrK ?_)
    refine z_istore_n K dX2_place_17 rfl (by decide) rfl ?_
    refine z_aload_n K dX2_place_18 rfl rfl rfl ?_
    refine z_aload_n K dX2_place_19 rfl rfl rfl ?_
    refine z_callV K (hea) cV_X2_143_X2 (sH_shop) rfl rfl rfl (by omega) (by omega) (by omega) (Nat.le_of_ble_eq_true rfl) dX2_place_20 zrX (zrK ?_)
    refine z_istore_n K dX2_place_23 rfl (by decide) rfl ?_
    refine z_iload_n K dX2_place_24 rfl rfl ?_
    refine j_iconst K dX2_place_25 ?_
    refine j_icmp_eq (tgt := 40) K dX2_place_26 rfl (by omega) (by omega) (fun c_26 => ?_) (fun c_26 => ?_)
    · exact absurd c_26 hz
    · refine z_iload_n K dX2_place_29 rfl rfl ?_
      refine z_aload_n K dX2_place_30 rfl rfl rfl ?_
      refine z_get K fd_X2_40_2 (sH_shop) rfl dX2_place_31 ?_
      refine z_iload_n K dX2_place_34 rfl rfl ?_
      refine j_ild K (sH_31) (by omega) (by omega) dX2_place_35 ?_
      refine z_callS K ((s_max (by omega) (by omega)).r) cS_X2_147 rfl rfl (by omega) (by omega) (by omega) (Nat.le_of_ble_eq_true rfl) dX2_place_36 zrX (zrK ?_)
      refine z_istore_n K dX2_place_39 rfl (by decide) rfl ?_
      exact h40 _ rfl (by omega) (by omega) _ ⟨rfl, rfl, rfl, trivial⟩
/-- the shop's schedule without the orders of the machines that a names -/
theorem x2_isScheduled {a : Nat} {bb : Int} (ha : a < 16) (hb : 1000 ≤ b) (hbb : 500 ≤ bb ∧ bb ≤ 3200) (hhb : u 5 2 = -1 ∨ u 5 3 ≤ bb) (hA : WfA (u 0)) (hO : WfO (u 0)) (hB : BkOk b u g) (hd : -1 ≤ u 5 2 ∧ u 5 2 ≤ 100) (hu : 0 ≤ u 5 3 ∧ u 5 3 ≤ 3000) :
    zMet yX2_isScheduled (ws_ yX2_isScheduled cX2_isScheduled 5 (some .boolean)) 6 [.ref b, .int (iI a)] (sH b u g) (fun z h' => ∃ u' rd st, z = .inl (some (.int (iI (bI (cntU st (u 0 1).toNat = 0))))) ∧ h' = sH b u' g ∧ SK u u' ∧ SR (u 0) (oB a) (u 5 2) (u 5 3) rd st u' ∧ Tp (u 0) (oB a) (u 5 2) (u 5 3) rd st ∧ Tq (u 0) (oB a) st ∧ ∀ i : Nat, (i : Int) < u 0 1 → -1 ≤ st i ∧ st i ≤ bb + 800) 0 0 := by
  have h20 := hA.2.1.1
  have hMp : 2 ^ (u 0 1).toNat ≤ 2 ^ 20 := Nat.pow_le_pow_right (by omega) (by omega)
  have h31 : (2 : Nat) ^ 20 < 2 ^ 31 := by decide
  refine zMet.of (by decide) (Nat.le_of_ble_eq_true rfl) fun X K => ?_
  generalize hs : u 0 = s at *
  generalize ho : oB a = o at *
  generalize hhd : u 5 2 = hd' at *
  generalize hhu : u 5 3 = hu' at *
  have fin : ∀ (u1 : tW) (rd st : Nat → Int), SK u u1 → SR s o hd' hu' rd st u1 → Tp s o hd' hu' rd st → Tq s o st → (∀ i : Nat, (i : Int) < s 1 → -1 ≤ st i ∧ st i ≤ bb + 800) → ∀ env, zsub env [(0, .ref b)] → zW X (fun z h' => ∃ u' rd st, z = .inl (some (.int (iI (bI (cntU st (s 1).toNat = 0))))) ∧ h' = sH b u' g ∧ SK u u' ∧ SR s o hd' hu' rd st u' ∧ Tp s o hd' hu' rd st ∧ Tq s o st ∧ ∀ i : Nat, (i : Int) < s 1 → -1 ≤ st i ∧ st i ≤ bb + 800) (sH b u1 g) 0 0 103 env [] := by
    intro u1 rd st hK1 hR1 hT1 hQ1 hB1 env he
    refine zW.cut he ?_
    obtain ⟨e0, -, -, e1, -⟩ := id hR1
    have hl := dnM_lt st (s 1).toNat
    have hall := dnM_all (st := st) (s 1).toNat
    have h1s := sh_1 (s 1).toNat (by omega)
    rw [show (((s 1).toNat : Nat) : Int) = s 1 by omega] at h1s
    have hp := Nat.two_pow_pos (s 1).toNat
    refine z_aload_n K dX2_isScheduled_103 rfl rfl rfl ?_
    refine z_get K fd_X2_137_2 (sH_shop) rfl dX2_isScheduled_104 ?_
    rw [e1]
    refine j_iconst K dX2_isScheduled_107 ?_
    refine z_aload_n K dX2_isScheduled_108 rfl rfl rfl ?_
    refine z_get K fd_X2_18_2 (sH_shop) rfl dX2_isScheduled_109 ?_
    refine z_callV K (jl_size sH_ops) cV_X2_55_J2 (sH_ops) rfl rfl rfl (by omega) (by omega) (by omega) (Nat.le_of_ble_eq_true rfl) dX2_isScheduled_112 zrX (zrK ?_)
    rw [e0]
    refine z_ishl K dX2_isScheduled_115 ?_
    rw [h1s]
    refine j_iconst K dX2_isScheduled_116 ?_
    refine j_isub K dX2_isScheduled_117 ?_
    refine j_icmp_ne (tgt := 125) K dX2_isScheduled_118 rfl (by omega) (by omega) (fun c_118 => ?_) (fun c_118 => ?_)
    · refine j_iconst K dX2_isScheduled_125 ?_
      exact z_zret K (iI_b (by omega)) (by omega) (by omega) (⟨u1, rd, st, by first | rw [show bI (cntU st (s 1).toNat = 0) = 1 from if_pos (hall.mp (by omega))] | rw [show bI (cntU st (s 1).toNat = 0) = 0 from if_neg (fun q => by have := hall.mpr q; omega)], rfl, hK1, hR1, hT1, hQ1, hB1⟩) dX2_isScheduled_126
    · refine j_iconst K dX2_isScheduled_121 ?_
      refine z_goto (tgt := 126) K dX2_isScheduled_122 rfl ?_
      exact z_zret K (iI_b (by omega)) (by omega) (by omega) (⟨u1, rd, st, by first | rw [show bI (cntU st (s 1).toNat = 0) = 1 from if_pos (hall.mp (by omega))] | rw [show bI (cntU st (s 1).toNat = 0) = 0 from if_neg (fun q => by have := hall.mpr q; omega)], rfl, hK1, hR1, hT1, hQ1, hB1⟩) dX2_isScheduled_126
  have outer : ∀ (M : Nat) (u1 : tW) (rd st : Nat → Int), (cntU st (s 1).toNat).toNat < M → SK u u1 → SR s o hd' hu' rd st u1 → Tp s o hd' hu' rd st → (∀ i : Nat, (i : Int) < s 1 → -1 ≤ st i ∧ st i ≤ bb + 40 * (s 1 - cntU st (s 1).toNat)) → ∀ env, zsub env [(0, .ref b), (2, .int (iI 1))] → zW X (fun z h' => ∃ u' rd st, z = .inl (some (.int (iI (bI (cntU st (s 1).toNat = 0))))) ∧ h' = sH b u' g ∧ SK u u' ∧ SR s o hd' hu' rd st u' ∧ Tp s o hd' hu' rd st ∧ Tq s o st ∧ ∀ i : Nat, (i : Int) < s 1 → -1 ≤ st i ∧ st i ≤ bb + 800) (sH b u1 g) 0 0 17 env [] := by
    intro M
    induction M with
    | zero => intro u1 rd st h; omega
    | succ M ih =>
      intro u0 rd0 st0 hM hK0 hR0 hT0 hB0 env he
      refine zW.cut he ?_
      have inner : ∀ (r : Nat) (k : Int) (u1 : tW) (rd st : Nat → Int) (c : Int), 0 ≤ k → k + r = s 1 → SK u u1 → SR s o hd' hu' rd st u1 → Tp s o hd' hu' rd st → (∀ i : Nat, (i : Int) < s 1 → -1 ≤ st i ∧ st i ≤ bb + 40 * (s 1 - cntU st (s 1).toNat)) → (c = 0 ∧ cntU st (s 1).toNat = cntU st0 (s 1).toNat ∧ ∀ i : Int, 0 ≤ i → i < k → st i.toNat < 0 → (sBef s i ≠ -1 ∧ st (sBef s i).toNat < 0) ∨ (sAh s o i ≠ -1 ∧ st (sAh s o i).toNat < 0)) ∨ (c = 1 ∧ cntU st (s 1).toNat < cntU st0 (s 1).toNat) → ∀ env, zsub env [(0, .ref b), (2, .int (iI c)), (3, .int (iI k))] → zW X (fun z h' => ∃ u' rd st, z = .inl (some (.int (iI (bI (cntU st (s 1).toNat = 0))))) ∧ h' = sH b u' g ∧ SK u u' ∧ SR s o hd' hu' rd st u' ∧ Tp s o hd' hu' rd st ∧ Tq s o st ∧ ∀ i : Nat, (i : Int) < s 1 → -1 ≤ st i ∧ st i ≤ bb + 800) (sH b u1 g) 0 0 25 env [] := by
        intro r
        induction r with
        | zero =>
          intro k u1 rd st c k0 hk hK1 hR1 hT hBd hc env he
          refine zW.cut he ?_
          have hcr := cntU_r st (s 1).toNat
          have hcr0 := cntU_r st0 (s 1).toNat
          obtain ⟨e0, -⟩ := id hR1
          rcases hc with ⟨rfl, hc, hno⟩ | ⟨rfl, hlt⟩
          · have fi := fin u1 rd st hK1 hR1 hT (fun i i0 i1 => hno i i0 (by omega)) (fun i hi => by have := hBd i hi; omega)
            refine z_iload_n K dX2_isScheduled_25 rfl rfl ?_
            refine z_aload_n K dX2_isScheduled_26 rfl rfl rfl ?_
            refine z_get K fd_X2_18_2 (sH_shop) rfl dX2_isScheduled_27 ?_
            refine z_callV K (jl_size sH_ops) cV_X2_55_J2 (sH_ops) rfl rfl rfl (by omega) (by omega) (by omega) (Nat.le_of_ble_eq_true rfl) dX2_isScheduled_30 zrX (zrK ?_)
            rw [e0]
            refine j_icmp_ge (tgt := 100) K dX2_isScheduled_33 rfl (by omega) (by omega) (fun c_33 => ?_) (fun c_33 => ?_)
            · refine z_goto (tgt := 17) K dX2_isScheduled_100 rfl ?_
              refine z_iload_n K dX2_isScheduled_17 rfl rfl ?_
              refine j_if_eq (tgt := 103) K dX2_isScheduled_18 rfl (by omega) (fun c_18 => ?_) (fun c_18 => ?_)
              · exact fi _ ⟨rfl, trivial⟩
              · exact absurd rfl c_18
            · exact absurd c_33 (by omega)
          · have ii := ih u1 rd st (by omega) hK1 hR1 hT hBd
            refine z_iload_n K dX2_isScheduled_25 rfl rfl ?_
            refine z_aload_n K dX2_isScheduled_26 rfl rfl rfl ?_
            refine z_get K fd_X2_18_2 (sH_shop) rfl dX2_isScheduled_27 ?_
            refine z_callV K (jl_size sH_ops) cV_X2_55_J2 (sH_ops) rfl rfl rfl (by omega) (by omega) (by omega) (Nat.le_of_ble_eq_true rfl) dX2_isScheduled_30 zrX (zrK ?_)
            rw [e0]
            refine j_icmp_ge (tgt := 100) K dX2_isScheduled_33 rfl (by omega) (by omega) (fun c_33 => ?_) (fun c_33 => ?_)
            · refine z_goto (tgt := 17) K dX2_isScheduled_100 rfl ?_
              exact ii _ ⟨rfl, rfl, trivial⟩
            · exact absurd c_33 (by omega)
        | succ r ihr =>
          intro k u1 rd st c k0 hk hK1 hR1 hT hBd hc env he
          refine zW.cut he ?_
          have hcr := cntU_r st (s 1).toNat
          have hk1 : k < s 1 := by omega
          have hst := hBd k.toNat (by omega)
          obtain ⟨e0, e1, e2, e3, e4, e5, e6⟩ := id hR1
          have hA1 : WfA (u1 0) := by rw [e0]; exact hA
          have hO1 : WfO (u1 0) := by rw [e0]; exact hO
          have hB1 := hK1.bk hB
          have hbo := (sBef_ok hA k0 hk1).imp id fun q => q.1
          have hao := (sAh_ok (o := o) hA hO k0 hk1).imp id fun q => q.2.1
          have hMl := dnM_lt st (s 1).toNat
          have hdn : ∀ q : Int, q = -1 ∨ (0 ≤ q ∧ q < s 1) → zMet yX2_isDone (ws_ yX2_isDone cX2_isDone 2 (some .boolean)) 1 [.ref b, .int (iI q)] (sH b u1 g) (zRet (.int (iI (bI (q = -1 ∨ 0 ≤ st q.toNat)))) (sH b u1 g)) 0 0 := fun q hq => by
            have h9 := x2_isDone (b := b) (u := u1) (g := g) (k := q) (M := dnM st (s 1).toNat) (by omega) e3 (by omega)
            rcases hq with hq | hq
            · rw [show bI (q = -1 ∨ dnM st (s 1).toNat / 2 ^ q.toNat % 2 = 1) = 1 from if_pos (Or.inl hq)] at h9
              rw [show bI (q = -1 ∨ 0 ≤ st q.toNat) = 1 from if_pos (Or.inl hq)]
              exact h9
            · have hb9 := dnM_bit (st := st) (k := q.toNat) (s 1).toNat (by omega)
              by_cases z : 0 ≤ st q.toNat
              · rw [if_pos z] at hb9
                rw [show bI (q = -1 ∨ dnM st (s 1).toNat / 2 ^ q.toNat % 2 = 1) = 1 from if_pos (Or.inr hb9)] at h9
                rw [show bI (q = -1 ∨ 0 ≤ st q.toNat) = 1 from if_pos (Or.inr z)]
                exact h9
              · rw [if_neg z] at hb9
                rw [show bI (q = -1 ∨ dnM st (s 1).toNat / 2 ^ q.toNat % 2 = 1) = 0 from if_neg (by omega)] at h9
                rw [show bI (q = -1 ∨ 0 ≤ st q.toNat) = 0 from if_neg (by omega)]
                exact h9
          have skip : (st k.toNat < 0 → (sBef s k ≠ -1 ∧ st (sBef s k).toNat < 0) ∨ (sAh s o k ≠ -1 ∧ st (sAh s o k).toNat < 0)) → ∀ env, zsub env [(0, .ref b), (2, .int (iI c)), (3, .int (iI k))] → zW X (fun z h' => ∃ u' rd st, z = .inl (some (.int (iI (bI (cntU st (s 1).toNat = 0))))) ∧ h' = sH b u' g ∧ SK u u' ∧ SR s o hd' hu' rd st u' ∧ Tp s o hd' hu' rd st ∧ Tq s o st ∧ ∀ i : Nat, (i : Int) < s 1 → -1 ≤ st i ∧ st i ≤ bb + 800) (sH b u1 g) 0 0 94 env [] := by
            intro hs9 env he
            refine zW.cut he ?_
            have nx := ihr (k + 1) u1 rd st c (by omega) (by omega) hK1 hR1 hT hBd (hc.imp (fun ⟨b0, hc, hno⟩ => ⟨b0, hc, fun i i0 i1 hi => by (rcases (by omega : i < k ∨ i = k) with q | q <;> first | exact hno i i0 q hi | (subst q; exact hs9 hi))⟩) id)
            refine j_iinc K dX2_isScheduled_94 rfl (by decide) rfl ?_
            refine z_goto (tgt := 25) K dX2_isScheduled_97 rfl ?_
            exact nx _ ⟨rfl, rfl, rfl, trivial⟩
          have hgo := gt_ops (b := b) (u := u1) (g := g) (k := k) (by rw [e0]; omega) (by rw [e0]; omega)
          have hop := sH_op (b := b) (u := u1) (g := g) (k := k) (by rw [e0]; omega) (by rw [e0]; omega)
          have hea := x2_earlier (b := b) (u := u1) (g := g) hA1 (by rw [e0]; exact ⟨k0, hk1⟩)
          have hsz := jl_size (sH_ops (b := b) (u := u1) (g := g))
          rw [e0] at hsz hea
          have hbef := e1 k k0 hk1
          refine z_iload_n K dX2_isScheduled_25 rfl rfl ?_
          refine z_aload_n K dX2_isScheduled_26 rfl rfl rfl ?_
          refine z_get K fd_X2_18_2 (sH_shop) rfl dX2_isScheduled_27 ?_
          refine z_callV K (hsz) cV_X2_55_J2 (sH_ops) rfl rfl rfl (by omega) (by omega) (by omega) (Nat.le_of_ble_eq_true rfl) dX2_isScheduled_30 zrX (zrK ?_)
          refine j_icmp_ge (tgt := 100) K dX2_isScheduled_33 rfl (by omega) (by omega) (fun c_33 => ?_) (fun c_33 => ?_)
          · exact absurd c_33 (by omega)
          · refine z_aload_n K dX2_isScheduled_36 rfl rfl rfl ?_
            refine z_get K fd_X2_18_2 (sH_shop) rfl dX2_isScheduled_37 ?_
            refine z_iload_n K dX2_isScheduled_40 rfl rfl ?_
            refine z_callV K (hgo) cV_X2_59_J2 (sH_ops) rfl rfl rfl (by omega) (by omega) (by omega) (Nat.le_of_ble_eq_true rfl) dX2_isScheduled_41 zrX (zrK ?_)
            refine z_castS K (hop) rfl q408 dX2_isScheduled_44 ?_
            refine z_astore K dX2_isScheduled_47 rfl (by decide) rfl ?_
            refine z_aload_n K dX2_isScheduled_49 rfl rfl rfl ?_
            refine z_iload_n K dX2_isScheduled_50 rfl rfl ?_
            refine z_callV K (hdn k (by omega)) cV_X2_175_X2 (sH_shop) rfl rfl rfl (by omega) (by omega) (by omega) (Nat.le_of_ble_eq_true rfl) dX2_isScheduled_51 zrX (zrK ?_)
            refine j_if_ne (tgt := 94) K dX2_isScheduled_54 rfl (b01r _) (fun c_54 => ?_) (fun c_54 => ?_)
            · rw [bI_ne] at c_54
              exact skip (fun q => by omega) _ ⟨rfl, rfl, rfl, trivial⟩
            · rw [bI_eq] at c_54
              refine z_aload_n K dX2_isScheduled_57 rfl rfl rfl ?_
              refine z_aload_n K dX2_isScheduled_58 rfl rfl rfl ?_
              refine z_get K fd_X2_31_2 (sH_shop) rfl dX2_isScheduled_59 ?_
              refine z_iload_n K dX2_isScheduled_62 rfl rfl ?_
              refine j_ild K (sH_28) (by omega) (by omega) dX2_isScheduled_63 ?_
              rw [hbef]
              refine z_callV K (hdn _ hao) cV_X2_175_X2 (sH_shop) rfl rfl rfl (by omega) (by omega) (by omega) (Nat.le_of_ble_eq_true rfl) dX2_isScheduled_64 zrX (zrK ?_)
              refine j_if_eq (tgt := 94) K dX2_isScheduled_67 rfl (b01r _) (fun c_67 => ?_) (fun c_67 => ?_)
              · rw [bI_eq] at c_67
                exact skip (fun _ => Or.inr ⟨by omega, by omega⟩) _ ⟨rfl, rfl, rfl, trivial⟩
              · rw [bI_ne] at c_67
                refine z_aload_n K dX2_isScheduled_70 rfl rfl rfl ?_
                refine z_aload_n K dX2_isScheduled_71 rfl rfl rfl ?_
                refine z_aload K dX2_isScheduled_72 rfl rfl ?_
                refine z_callV K (hea) cV_X2_143_X2 (sH_shop) rfl rfl rfl (by omega) (by omega) (by omega) (Nat.le_of_ble_eq_true rfl) dX2_isScheduled_74 zrX (zrK ?_)
                refine z_callV K (hdn _ hbo) cV_X2_175_X2 (sH_shop) rfl rfl rfl (by omega) (by omega) (by omega) (Nat.le_of_ble_eq_true rfl) dX2_isScheduled_77 zrX (zrK ?_)
                refine j_if_ne (tgt := 86) K dX2_isScheduled_80 rfl (b01r _) (fun c_80 => ?_) (fun c_80 => ?_)
                · rw [bI_ne] at c_80
                  have hkn : ∀ j : Int, 0 ≤ j → (j = -1 ∨ (0 ≤ j ∧ j < s 1)) → -1 ≤ st j.toNat ∧ st j.toNat ≤ 4000 := fun j j0 hj => by have := hBd j.toNat (by omega); omega
                  have hb9 : sBef s k = -1 ∨ (0 ≤ st (sBef s k).toNat ∧ st (sBef s k).toNat ≤ 10000) := by (rcases hbo with q | q <;> first | exact Or.inl q | exact Or.inr (by have := hkn _ q.1 (Or.inr q); have := c_80.resolve_left (by omega); omega))
                  have ha9 : sAh s o k = -1 ∨ (0 ≤ st (sAh s o k).toNat ∧ st (sAh s o k).toNat ≤ 10000) := by (rcases hao with q | q <;> first | exact Or.inl q | exact Or.inr (by have := hkn _ q.1 (Or.inr q); have := c_67.resolve_left (by omega); omega))
                  have hmx := gMx_le (s := s) (st := st) (B := 5000) (by omega) (s 1).toNat (fun i hi h0 => by have h8 := hBd i (by omega); have h7 := (hA.2.1.2 i (by omega) (by omega)).2.2.1; dsimp only [sDu] at h7; omega)
                  have hpl := x2_place (b := b) (u := u1) (g := g) (k := k) (s := s) (o := o) (rd := rd) (st := st) (hd := hd') (hu := hu') hb hA1 hO1 hB1 (by rw [e0]; exact ⟨k0, hk1⟩) hR1 hd hu (by omega) hb9 ha9 (by rw [e4]; omega) hao
                  have hB9 := hA.2.2.2.2.2
                  have hm9 := (hA.2.1.2 k k0 hk1).2.1
                  have hv9 := sFree_ok hB9 (f := sFrom hd' hu' k (sRdy s o (fun i => st i.toNat) k)) (d := sDu s k) hm9
                  have hR9 := sRdy_le (o := o) (f := fun i => st i.toNat) (b := bb + 40 * (s 1 - cntU st (s 1).toNat)) hA hO k0 hk1 (by (rcases hbo with q | q <;> first | exact Or.inl q | exact Or.inr (hBd _ (by omega)).2)) (by (rcases hao with q | q <;> first | exact Or.inl q | exact Or.inr (hBd _ (by omega)).2)) (by omega)
                  have hF9 : sRdy s o (fun i => st i.toNat) k ≤ sFrom hd' hu' k (sRdy s o (fun i => st i.toNat) k) ∧ sFrom hd' hu' k (sRdy s o (fun i => st i.toNat) k) ≤ bb + 39 + 40 * (s 1 - cntU st (s 1).toNat) := by (unfold sFrom; (rcases hhb with q | q <;> split <;> omega))
                  have hL9 := hv9.le hB9 hm9
                  have hG9 := hv9.1
                  have hC9 := cntU_sup (v := sFree s (sMc s k) (sFrom hd' hu' k (sRdy s o (fun i => st i.toNat) k)) (sDu s k)) (show k.toNat < (s 1).toNat by omega) (show st k.toNat < 0 by omega) (by omega)
                  refine z_aload_n K dX2_isScheduled_86 rfl rfl rfl ?_
                  refine z_aload K dX2_isScheduled_87 rfl rfl ?_
                  refine z_callV K (hpl) cV_X2_178_X2 (sH_shop) rfl rfl rfl (by omega) (by omega) (by omega) (Nat.le_of_ble_eq_true rfl) dX2_isScheduled_89 (fun _ _ ⟨_, e, _⟩ => nomatch e) ?_
                  rintro _ _ ⟨u2, ez, rfl, hK2, hR2⟩
                  cases ez
                  refine j_iconst K dX2_isScheduled_92 ?_
                  refine z_istore_n K dX2_isScheduled_93 rfl (by decide) rfl ?_
                  refine j_iinc K dX2_isScheduled_94 rfl (by decide) rfl ?_
                  refine z_goto (tgt := 25) K dX2_isScheduled_97 rfl ?_
                  exact ihr (k + 1) u2 _ _ 1 (by omega) (by omega) (hK1.tr hK2) hR2 (hT.step hA hO k0 hk1 (by omega) (hb9.imp id And.left) (ha9.imp id And.left) hv9) (fun i hi => by by_cases q : i = k.toNat; (rw [q, sup_s, hC9]; omega); (rw [sup_n q, hC9]; have := hBd i hi; omega)) (Or.inr ⟨rfl, by rw [hC9]; rcases hc with q | q <;> omega⟩) _ ⟨rfl, rfl, rfl, trivial⟩
                · rw [bI_eq] at c_80
                  refine z_goto (tgt := 94) K dX2_isScheduled_83 rfl ?_
                  exact skip (fun _ => Or.inl ⟨by omega, by omega⟩) _ ⟨rfl, rfl, rfl, trivial⟩
      have st := inner (s 1).toNat 0 u0 rd0 st0 0 (by omega) (by omega) hK0 hR0 hT0 hB0 (Or.inl ⟨rfl, rfl, fun i i0 i1 => by omega⟩)
      refine z_iload_n K dX2_isScheduled_17 rfl rfl ?_
      refine j_if_eq (tgt := 103) K dX2_isScheduled_18 rfl (by omega) (fun c_18 => ?_) (fun c_18 => ?_)
      · exact absurd c_18 (by omega)
      · refine j_iconst K dX2_isScheduled_21 ?_
        refine z_istore_n K dX2_isScheduled_22 rfl (by decide) rfl ?_
        refine j_iconst K dX2_isScheduled_23 ?_
        refine z_istore_n K dX2_isScheduled_24 rfl (by decide) rfl ?_
        exact st _ ⟨rfl, rfl, rfl, trivial⟩
  have hl := x2_link (b := b) (u := u) (g := g) ha hb (by rw [hs]; exact hA) (by rw [hs]; exact hO)
  refine z_aload_n K dX2_isScheduled_0 rfl rfl rfl ?_
  refine z_iload_n K dX2_isScheduled_1 rfl rfl ?_
  refine z_callV K (hl) cV_X2_172_X2 (sH_shop) rfl rfl rfl (by omega) (by omega) (by omega) (Nat.le_of_ble_eq_true rfl) dX2_isScheduled_2 (fun _ _ ⟨_, e, _⟩ => nomatch e) ?_
  rintro _ _ ⟨f, ez, rfl, hf⟩
  cases ez
  refine z_aload_n K dX2_isScheduled_5 rfl rfl rfl ?_
  refine j_iconst K dX2_isScheduled_6 ?_
  refine z_putE K fd_X2_164_2 ⟨_, rfl, Or.inl rfl⟩ (sH_shop) (by omega) (Nat.le_of_ble_eq_true rfl) (zf_i) dX2_isScheduled_7 (sH_n0) ?_
  refine z_aload_n K dX2_isScheduled_10 rfl rfl rfl ?_
  refine j_iconst K dX2_isScheduled_11 ?_
  refine z_putE K fd_X2_137_2 ⟨_, rfl, Or.inl rfl⟩ (sH_shop) (by omega) (Nat.le_of_ble_eq_true rfl) (zf_i) dX2_isScheduled_12 (sH_n1) ?_
  refine j_iconst K dX2_isScheduled_15 ?_
  refine z_istore_n K dX2_isScheduled_16 rfl (by decide) rfl ?_
  have hneg : ∀ i, i < (s 1).toNat → (fun _ : Nat => (-1 : Int)) i < 0 := fun i hi => (by decide : (-1 : Int) < 0)
  have hc : cntU (fun _ => -1) (s 1).toNat = (s 1).toNat := cntU_all hneg
  refine outer ((s 1).toNat + 1) _ (fun _ => 0) (fun _ => -1) (by rw [hc]; omega) ?_ ?_ (fun i i0 i1 hi => absurd hi (by decide : ¬ (0 : Int) ≤ -1)) (fun i hi => by rw [hc]; omega) _ ⟨rfl, rfl, trivial⟩
  · refine ⟨fun f' a1 a2 a3 a4 a5 => ?_, ?_, ?_, fun z => z⟩
    · rw [tsG a5, tsG a5, if_neg a1]
    · rw [tsN (by decide), tsN (by decide)]; rfl
    · rw [tsN (by decide), tsN (by decide)]; rfl
  · refine ⟨?_, fun k k0 k1 => ?_, fun k k1 k2 => absurd k2 (by decide : ¬ (0 : Int) ≤ -1), ?_, ?_, ?_, ?_⟩
    · rw [tsG (by decide), tsG (by decide), if_neg (by decide)]; exact hs
    · rw [tsF (by decide), tsF (by decide), if_pos rfl, hf k k0 (by rw [hs]; exact k1), hs, ho]
    · rw [tsS, dnM_0 _ hneg]; rfl
    · rw [tsN (by decide), tsS, gMx_neg _ hneg]
    · rw [tsN (by decide), tsN (by decide), if_neg (by decide)]; exact hhd
    · rw [tsN (by decide), tsN (by decide), if_neg (by decide)]; exact hhu
end XSe

