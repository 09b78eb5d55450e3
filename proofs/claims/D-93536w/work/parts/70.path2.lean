/-! ===== the component: the critical path ===== -/
section XPb
variable {b : Nat} {u : tW} {g : zH} {N : Nat}
theorem x2_pathB {o rd st : Nat → Int} {hd hu : Int} (hb : 1000 ≤ b) (hN : b + 72 ≤ N) (hAm : Am g) (hTp : zTop g N) (hA : WfA (u 0)) (hO : WfO (u 0)) (hS : SF u o rd st) (hT : Tp (u 0) o hd hu rd st) : zMet yX2_pathBackwards (ws_ yX2_pathBackwards cX2_pathBackwards 6 (some (.object "java/util/ArrayList"))) 8 [.ref b] (sH b u g) (fun z h' => ∃ (c : Int) (p : Nat → Int), z = .inl (some (.ref N)) ∧ h' = sH b u (lH N c (pthS (u 0) o rd st).length (fun i => b + 52 + (p i).toNat) g) ∧ (pthS (u 0) o rd st).length ≤ 20 ∧ ∀ i : Nat, i < (pthS (u 0) o rd st).length → (pthS (u 0) o rd st)[i]? = some (p i) ∧ 0 ≤ p i ∧ p i < u 0 1) 30 600 := by
  have h20 := hA.2.1.1
  have hall : ∀ k : Int, 0 ≤ k → k < u 0 1 → 0 ≤ st k.toNat ∧ st k.toNat ≤ 4000 := fun k k0 k1 => (hS k k0 k1).2.2.2.2
  have hdu : ∀ k : Int, 0 ≤ k → k < u 0 1 → 1 ≤ u 0 (82 + k).toNat ∧ u 0 (82 + k).toNat ≤ 30 := fun k k0 k1 => (hA.2.1.2 k k0 k1).2.2.1
  have hend : ∀ k : Int, 0 ≤ k → k < u 0 1 → u 4 k.toNat = st k.toNat + u 0 (82 + k).toNat := fun k k0 k1 => (hS k k0 k1).2.2.2.1
  refine zMet.of (by decide) (Nat.le_of_ble_eq_true rfl) fun X K => ?_
  have back : ∀ (n : Nat) (k : Int) (c : Int) (p : Nat → Int) (q : Nat) (pre : List Int), (k = -1 ∨ (0 ≤ k ∧ k < u 0 1)) → (k ≠ -1 → q + cntL st (st k.toNat) (u 0 1).toNat + 1 ≤ (u 0 1).toNat ∧ cntL st (st k.toNat) (u 0 1).toNat < n) → q ≤ 20 → pre.length = q → (∀ i : Nat, i < q → pre[i]? = some (p i) ∧ 0 ≤ p i ∧ p i < u 0 1) → pthS (u 0) o rd st = pre ++ pthO (u 0) o rd st (21 - q) k → ∀ env, zsub env [(0, .ref b), (1, .ref N), (2, .int (iI k))] → zW X (fun z h' => ∃ (c : Int) (p : Nat → Int), z = .inl (some (.ref N)) ∧ h' = sH b u (lH N c (pthS (u 0) o rd st).length (fun i => b + 52 + (p i).toNat) g) ∧ (pthS (u 0) o rd st).length ≤ 20 ∧ ∀ i : Nat, i < (pthS (u 0) o rd st).length → (pthS (u 0) o rd st)[i]? = some (p i) ∧ 0 ≤ p i ∧ p i < u 0 1) (sH b u (lH N c q (fun i => b + 52 + (p i).toNat) g)) (1 + q) (3 + 22 * q) 51 env [] := by
    intro n
    induction n with
    | zero =>
      intro k c p q pre hk hc hq hpl hpa hpt env he
      have hk1 : k = -1 := by
        rcases hk with z | z
        · exact z
        · have := (hc (by omega)).2; omega
      subst hk1
      have hpt : pthS (u 0) o rd st = pre := by rw [hpt, show 21 - q = (20 - q) + 1 by omega]; simp [pthO]
      refine zW.cut he ?_
      refine z_iload_n K dX2_pathBackwards_51 rfl rfl ?_
      refine j_iconst K dX2_pathBackwards_52 ?_
      refine j_icmp_eq (tgt := 168) K dX2_pathBackwards_53 rfl (by omega) (by omega) (fun c_53 => ?_) (fun c_53 => ?_)
      · refine z_aload_n K dX2_pathBackwards_168 rfl rfl rfl ?_
        exact z_aret K (by simp) rfl (by omega) (by omega) (⟨c, p, rfl, by rw [hpt, hpl], by rw [hpt, hpl]; exact hq, by rw [hpt, hpl]; exact hpa⟩) dX2_pathBackwards_169
      · exact absurd rfl c_53
    | succ n ih =>
      intro k c p q pre hk hc hq hpl hpa hpt env he
      refine zW.cut he ?_
      by_cases hk1 : k = -1
      · subst hk1
        have hpt : pthS (u 0) o rd st = pre := by rw [hpt, show 21 - q = (20 - q) + 1 by omega]; simp [pthO]
        refine z_iload_n K dX2_pathBackwards_51 rfl rfl ?_
        refine j_iconst K dX2_pathBackwards_52 ?_
        refine j_icmp_eq (tgt := 168) K dX2_pathBackwards_53 rfl (by omega) (by omega) (fun c_53 => ?_) (fun c_53 => ?_)
        · refine z_aload_n K dX2_pathBackwards_168 rfl rfl rfl ?_
          exact z_aret K (by simp) rfl (by omega) (by omega) (⟨c, p, rfl, by rw [hpt, hpl], by rw [hpt, hpl]; exact hq, by rw [hpt, hpl]; exact hpa⟩) dX2_pathBackwards_169
        · exact absurd rfl c_53
      · have hkr := hk.resolve_left hk1
        obtain ⟨hc1, hc2⟩ := hc hk1
        have hpk := hall k hkr.1 hkr.2
        have hdk := hdu k hkr.1 hkr.2
        obtain ⟨s1, s2, s3, s4, -, -⟩ := hS k hkr.1 hkr.2
        have hno := nxtO_ok hA hO hT hkr.1 hkr.2 hpk.1
        have hq20 : q < 20 := by omega
        have hls : ∀ i, i < q → zOb (sH b u (lH N c q (fun i => b + 52 + (p i).toNat) g)) (b + 52 + (p i).toNat) := fun i hi => zOb_op (hpa i hi).2 (by omega)
        have hadd := jl_addS (b := b) (u := u) (g := g) (L := N) (c := c) (n := q) (f := fun i => b + 52 + (p i).toNat) (x := b + 52 + k.toNat) hAm hN hb (by omega) (zOb_op hkr (by omega)) hls
        have hcg : (fun i => if i = q then b + 52 + k.toNat else b + 52 + (p i).toNat) = fun i => b + 52 + (sup p q k i).toNat := by
          funext i
          by_cases e : i = q
          · rw [if_pos e, e, sup_s]
          · rw [if_neg e, sup_n e]
        rw [hcg] at hadd
        have hpre : ∀ i : Nat, i < q + 1 → (pre ++ [k])[i]? = some (sup p q k i) ∧ 0 ≤ sup p q k i ∧ sup p q k i < u 0 1 := fun i hi => by
          by_cases e : i = q
          · subst e
            rw [sup_s, ← hpl, List.getElem?_append_right (Nat.le_refl _), Nat.sub_self]
            exact ⟨rfl, hkr⟩
          · rw [sup_n e, List.getElem?_append_left (by omega)]
            exact hpa i (by omega)
        have hpt2 : ∀ k2, nxtO (u 0) o rd st k = k2 → pthS (u 0) o rd st = (pre ++ [k]) ++ pthO (u 0) o rd st (21 - (q + 1)) k2 := fun k2 e => by
          rw [hpt, show 21 - q = (21 - (q + 1)) + 1 by omega]
          simp only [pthO]
          rw [if_neg hk1, e, List.append_assoc]
          rfl
        have nx : ∀ k2, nxtO (u 0) o rd st k = k2 → ∀ env, zsub env [(0, .ref b), (1, .ref N), (2, .int (iI k2))] → zW X (fun z h' => ∃ (c : Int) (p : Nat → Int), z = .inl (some (.ref N)) ∧ h' = sH b u (lH N c (pthS (u 0) o rd st).length (fun i => b + 52 + (p i).toNat) g) ∧ (pthS (u 0) o rd st).length ≤ 20 ∧ ∀ i : Nat, i < (pthS (u 0) o rd st).length → (pthS (u 0) o rd st)[i]? = some (p i) ∧ 0 ≤ p i ∧ p i < u 0 1) (sH b u (lH N (c + 1) (q + 1) (fun i => b + 52 + (sup p q k i).toNat) g)) (1 + q + 1) (3 + 22 * q + 22) 51 env [] := fun k2 e env he => by
          have h9 := ih k2 (c + 1) (sup p q k) (q + 1) (pre ++ [k]) (by rw [← e]; exact hno.imp id And.left) (fun hne => by
            rw [← e] at hne ⊢
            obtain ⟨z1, z2⟩ := hno.resolve_left hne
            have z3 := cntL_lt (st := st) (show st (nxtO (u 0) o rd st k).toNat ≤ st k.toNat by omega) (Int.le_refl _) z2 (u 0 1).toNat (by omega)
            omega) (by omega) (by rw [List.length_append, hpl]; rfl) hpre (hpt2 k2 e) env he
          rw [show 1 + (q + 1) = 1 + q + 1 by omega, show 3 + 22 * (q + 1) = 3 + 22 * q + 22 by omega] at h9
          exact h9
        have hea := x2_earlier (b := b) (u := u) (g := lH N (c + 1) (q + 1) (fun i => b + 52 + (sup p q k i).toNat) g) hA hkr
        have hbo := (sBef_ok hA hkr.1 hkr.2).imp id fun q => q.1
        have hao := (sAh_ok (o := o) hA hO hkr.1 hkr.2).imp id fun q => q.2.1
        have hbe := fun hz => hend (sBef (u 0) k) (hbo.resolve_left hz).1 (hbo.resolve_left hz).2
        have hbr := fun hz => hall (sBef (u 0) k) (hbo.resolve_left hz).1 (hbo.resolve_left hz).2
        have hbd := fun hz => hdu (sBef (u 0) k) (hbo.resolve_left hz).1 (hbo.resolve_left hz).2
        have hae := fun hz => hend (sAh (u 0) o k) (hao.resolve_left hz).1 (hao.resolve_left hz).2
        have har := fun hz => hall (sAh (u 0) o k) (hao.resolve_left hz).1 (hao.resolve_left hz).2
        have had := fun hz => hdu (sAh (u 0) o k) (hao.resolve_left hz).1 (hao.resolve_left hz).2
        have hsu := fun hz => x2_setup (b := b) (u := u) (g := lH N (c + 1) (q + 1) (fun i => b + 52 + (sup p q k i).toNat) g) hA (hao.resolve_left hz) hkr
        have hsr := fun hz => (hA.su (hao.resolve_left hz) hkr).2.2
        have hrr : 0 ≤ rd k.toNat ∧ rd k.toNat ≤ 5000 := by
          have z1 := (hT k hkr.1 hkr.2 hpk.1)
          obtain ⟨y1, y2, y3, y4⟩ := z1
          have y5 := y4.1
          rw [y3]
          have z2 := sRdy_ge (s := u 0) (o := o) (f := fun i => st i.toNat) (k := k)
          have z3 := (hA.1.2 _ (hA.2.1.2 k hkr.1 hkr.2).1.1 (hA.2.1.2 k hkr.1 hkr.2).1.2).1
          have z4 : rd k.toNat ≤ sFrom hd hu k (rd k.toNat) := by unfold sFrom; split <;> omega
          omega
        generalize hBf : sBef (u 0) k = B at *
        generalize hAf : sAh (u 0) o k = Z at *
        have hnx : ∀ k2, (if B ≠ -1 ∧ st B.toNat + sDu (u 0) B = rd k.toNat then B else if Z ≠ -1 ∧ st Z.toNat + sDu (u 0) Z + sSu (u 0) Z k = rd k.toNat then Z else -1) = k2 → nxtO (u 0) o rd st k = k2 := fun k2 e => by
          unfold nxtO
          rw [hBf, hAf]
          exact e
        have n1 := fun hz1 hz2 => nx B (hnx B (by rw [if_pos ⟨hz1, hz2⟩]))
        have n2 := fun hz0 hz1 hz2 => nx Z (hnx Z (by rw [if_neg hz0, if_pos ⟨hz1, hz2⟩]))
        have n3 := fun hz0 hz1 => nx (-1) (hnx (-1) (by rw [if_neg hz0, if_neg hz1]))
        clear nx hnx ih hpt2
        (try dsimp only [sRel, sDue, sWt, sLen, sSeq, sJb, sMc, sDu, sFa, sIx, sSu, sBn, sBf, sBl, sOn, sOr] at *)
        refine z_iload_n K dX2_pathBackwards_51 rfl rfl ?_
        refine j_iconst K dX2_pathBackwards_52 ?_
        refine j_icmp_eq (tgt := 168) K dX2_pathBackwards_53 rfl (by omega) (by omega) (fun c_53 => ?_) (fun c_53 => ?_)
        · exact absurd c_53 hk1
        · refine z_aload_n K dX2_pathBackwards_56 rfl rfl rfl ?_
          refine z_get K fd_X2_18_2 (sH_shop) rfl dX2_pathBackwards_57 ?_
          refine z_iload_n K dX2_pathBackwards_60 rfl rfl ?_
          refine z_callV K (gt_ops ⟨by omega, by omega⟩ (by omega)) cV_X2_59_J2 (sH_ops) rfl rfl rfl (by omega) (by omega) (by omega) (Nat.le_of_ble_eq_true rfl) dX2_pathBackwards_61 zrX (zrK ?_)
          refine z_castS K (sH_op ⟨by omega, by omega⟩ (by omega)) rfl q408 dX2_pathBackwards_64 ?_
          refine z_astore_n K dX2_pathBackwards_67 rfl rfl (by decide) rfl ?_
          refine z_aload_n K dX2_pathBackwards_68 rfl rfl rfl ?_
          refine z_aload_n K dX2_pathBackwards_69 rfl rfl rfl ?_
          refine z_callV K (hadd) cV_X2_47_J2 (sH_l0 hN) rfl rfl rfl (by omega) (by omega) (by omega) (Nat.le_of_ble_eq_true rfl) dX2_pathBackwards_70 zrX (zrK ?_)
          refine z_pop K dX2_pathBackwards_73 rfl ?_
          refine z_aload_n K dX2_pathBackwards_74 rfl rfl rfl ?_
          refine z_aload_n K dX2_pathBackwards_75 rfl rfl rfl ?_
          refine z_callV K (hea) cV_X2_143_X2 (sH_shop) rfl rfl rfl (by omega) (by omega) (by omega) (Nat.le_of_ble_eq_true rfl) dX2_pathBackwards_76 zrX (zrK ?_)
          refine z_istore K dX2_pathBackwards_79 (by decide) rfl ?_
          refine z_aload_n K dX2_pathBackwards_81 rfl rfl rfl ?_
          refine z_get K fd_X2_31_2 (sH_shop) rfl dX2_pathBackwards_82 ?_
          refine z_iload_n K dX2_pathBackwards_85 rfl rfl ?_
          refine j_ild K (sH_28) (by omega) (by omega) dX2_pathBackwards_86 ?_
          rw [s1]
          refine z_istore K dX2_pathBackwards_87 (by decide) rfl ?_
          refine z_iload K dX2_pathBackwards_89 rfl ?_
          refine j_iconst K dX2_pathBackwards_91 ?_
          refine j_icmp_eq (tgt := 117) K dX2_pathBackwards_92 rfl (by omega) (by omega) (fun c_92 => ?_) (fun c_92 => ?_)
          · refine z_iload K dX2_pathBackwards_117 rfl ?_
            refine j_iconst K dX2_pathBackwards_119 ?_
            refine j_icmp_eq (tgt := 163) K dX2_pathBackwards_120 rfl (by omega) (by omega) (fun c_120 => ?_) (fun c_120 => ?_)
            · refine j_iconst K dX2_pathBackwards_163 ?_
              refine z_istore_n K dX2_pathBackwards_164 rfl (by decide) rfl ?_
              refine z_goto (tgt := 51) K dX2_pathBackwards_165 rfl ?_
              exact n3 (by first | exact fun z => z.1 c_92 | exact fun z => c_108 z.2) (by first | exact fun z => z.1 c_120 | exact fun z => c_154 z.2) _ ⟨rfl, rfl, rfl, trivial⟩
            · refine z_aload_n K dX2_pathBackwards_123 rfl rfl rfl ?_
              refine z_get K fd_X2_40_2 (sH_shop) rfl dX2_pathBackwards_124 ?_
              refine z_iload K dX2_pathBackwards_127 rfl ?_
              refine j_ild K (sH_31) (by omega) (by omega) dX2_pathBackwards_129 ?_
              rw [hae c_120]
              refine z_aload_n K dX2_pathBackwards_130 rfl rfl rfl ?_
              refine z_aload_n K dX2_pathBackwards_131 rfl rfl rfl ?_
              refine z_get K fd_X2_18_2 (sH_shop) rfl dX2_pathBackwards_132 ?_
              refine z_iload K dX2_pathBackwards_135 rfl ?_
              refine z_callV K (gt_ops ⟨by omega, by omega⟩ (by omega)) cV_X2_59_J2 (sH_ops) rfl rfl rfl (by omega) (by omega) (by omega) (Nat.le_of_ble_eq_true rfl) dX2_pathBackwards_137 zrX (zrK ?_)
              refine z_castS K (sH_op ⟨by omega, by omega⟩ (by omega)) rfl q408 dX2_pathBackwards_140 ?_
              refine z_aload_n K dX2_pathBackwards_143 rfl rfl rfl ?_
              refine z_callV K (hsu c_120) cV_X2_153_X2 (sH_shop) rfl rfl rfl (by omega) (by omega) (by omega) (Nat.le_of_ble_eq_true rfl) dX2_pathBackwards_144 zrX (zrK ?_)
              refine j_iadd K dX2_pathBackwards_147 ?_
              refine z_aload_n K dX2_pathBackwards_148 rfl rfl rfl ?_
              refine z_get K fd_X2_34_2 (sH_shop) rfl dX2_pathBackwards_149 ?_
              refine z_iload_n K dX2_pathBackwards_152 rfl rfl ?_
              refine j_ild K (sH_29) (by omega) (by omega) dX2_pathBackwards_153 ?_
              rw [s2]
              refine j_icmp_ne (tgt := 163) K dX2_pathBackwards_154 rfl (by have := har c_120; have := had c_120; have := hsr c_120; omega) (by omega) (fun c_154 => ?_) (fun c_154 => ?_)
              · refine j_iconst K dX2_pathBackwards_163 ?_
                refine z_istore_n K dX2_pathBackwards_164 rfl (by decide) rfl ?_
                refine z_goto (tgt := 51) K dX2_pathBackwards_165 rfl ?_
                exact n3 (by first | exact fun z => z.1 c_92 | exact fun z => c_108 z.2) (by first | exact fun z => z.1 c_120 | exact fun z => c_154 z.2) _ ⟨rfl, rfl, rfl, trivial⟩
              · refine z_iload K dX2_pathBackwards_157 rfl ?_
                refine z_istore_n K dX2_pathBackwards_159 rfl (by decide) rfl ?_
                refine z_goto (tgt := 165) K dX2_pathBackwards_160 rfl ?_
                refine z_goto (tgt := 51) K dX2_pathBackwards_165 rfl ?_
                exact n2 (by first | exact fun z => z.1 c_92 | exact fun z => c_108 z.2) c_120 c_154 _ ⟨rfl, rfl, rfl, trivial⟩
          · refine z_aload_n K dX2_pathBackwards_95 rfl rfl rfl ?_
            refine z_get K fd_X2_40_2 (sH_shop) rfl dX2_pathBackwards_96 ?_
            refine z_iload K dX2_pathBackwards_99 rfl ?_
            refine j_ild K (sH_31) (by omega) (by omega) dX2_pathBackwards_101 ?_
            rw [hbe c_92]
            refine z_aload_n K dX2_pathBackwards_102 rfl rfl rfl ?_
            refine z_get K fd_X2_34_2 (sH_shop) rfl dX2_pathBackwards_103 ?_
            refine z_iload_n K dX2_pathBackwards_106 rfl rfl ?_
            refine j_ild K (sH_29) (by omega) (by omega) dX2_pathBackwards_107 ?_
            rw [s2]
            refine j_icmp_ne (tgt := 117) K dX2_pathBackwards_108 rfl (by have := hbr c_92; have := hbd c_92; omega) (by omega) (fun c_108 => ?_) (fun c_108 => ?_)
            · refine z_iload K dX2_pathBackwards_117 rfl ?_
              refine j_iconst K dX2_pathBackwards_119 ?_
              refine j_icmp_eq (tgt := 163) K dX2_pathBackwards_120 rfl (by omega) (by omega) (fun c_120 => ?_) (fun c_120 => ?_)
              · refine j_iconst K dX2_pathBackwards_163 ?_
                refine z_istore_n K dX2_pathBackwards_164 rfl (by decide) rfl ?_
                refine z_goto (tgt := 51) K dX2_pathBackwards_165 rfl ?_
                exact n3 (by first | exact fun z => z.1 c_92 | exact fun z => c_108 z.2) (by first | exact fun z => z.1 c_120 | exact fun z => c_154 z.2) _ ⟨rfl, rfl, rfl, trivial⟩
              · refine z_aload_n K dX2_pathBackwards_123 rfl rfl rfl ?_
                refine z_get K fd_X2_40_2 (sH_shop) rfl dX2_pathBackwards_124 ?_
                refine z_iload K dX2_pathBackwards_127 rfl ?_
                refine j_ild K (sH_31) (by omega) (by omega) dX2_pathBackwards_129 ?_
                rw [hae c_120]
                refine z_aload_n K dX2_pathBackwards_130 rfl rfl rfl ?_
                refine z_aload_n K dX2_pathBackwards_131 rfl rfl rfl ?_
                refine z_get K fd_X2_18_2 (sH_shop) rfl dX2_pathBackwards_132 ?_
                refine z_iload K dX2_pathBackwards_135 rfl ?_
                refine z_callV K (gt_ops ⟨by omega, by omega⟩ (by omega)) cV_X2_59_J2 (sH_ops) rfl rfl rfl (by omega) (by omega) (by omega) (Nat.le_of_ble_eq_true rfl) dX2_pathBackwards_137 zrX (zrK ?_)
                refine z_castS K (sH_op ⟨by omega, by omega⟩ (by omega)) rfl q408 dX2_pathBackwards_140 ?_
                refine z_aload_n K dX2_pathBackwards_143 rfl rfl rfl ?_
                refine z_callV K (hsu c_120) cV_X2_153_X2 (sH_shop) rfl rfl rfl (by omega) (by omega) (by omega) (Nat.le_of_ble_eq_true rfl) dX2_pathBackwards_144 zrX (zrK ?_)
                refine j_iadd K dX2_pathBackwards_147 ?_
                refine z_aload_n K dX2_pathBackwards_148 rfl rfl rfl ?_
                refine z_get K fd_X2_34_2 (sH_shop) rfl dX2_pathBackwards_149 ?_
                refine z_iload_n K dX2_pathBackwards_152 rfl rfl ?_
                refine j_ild K (sH_29) (by omega) (by omega) dX2_pathBackwards_153 ?_
                rw [s2]
                refine j_icmp_ne (tgt := 163) K dX2_pathBackwards_154 rfl (by have := har c_120; have := had c_120; have := hsr c_120; omega) (by omega) (fun c_154 => ?_) (fun c_154 => ?_)
                · refine j_iconst K dX2_pathBackwards_163 ?_
                  refine z_istore_n K dX2_pathBackwards_164 rfl (by decide) rfl ?_
                  refine z_goto (tgt := 51) K dX2_pathBackwards_165 rfl ?_
                  exact n3 (by first | exact fun z => z.1 c_92 | exact fun z => c_108 z.2) (by first | exact fun z => z.1 c_120 | exact fun z => c_154 z.2) _ ⟨rfl, rfl, rfl, trivial⟩
                · refine z_iload K dX2_pathBackwards_157 rfl ?_
                  refine z_istore_n K dX2_pathBackwards_159 rfl (by decide) rfl ?_
                  refine z_goto (tgt := 165) K dX2_pathBackwards_160 rfl ?_
                  refine z_goto (tgt := 51) K dX2_pathBackwards_165 rfl ?_
                  exact n2 (by first | exact fun z => z.1 c_92 | exact fun z => c_108 z.2) c_120 c_154 _ ⟨rfl, rfl, rfl, trivial⟩
            · refine z_iload K dX2_pathBackwards_111 rfl ?_
              refine z_istore_n K dX2_pathBackwards_113 rfl (by decide) rfl ?_
              refine z_goto (tgt := 165) K dX2_pathBackwards_114 rfl ?_
              refine z_goto (tgt := 51) K dX2_pathBackwards_165 rfl ?_
              exact n1 c_92 c_108 _ ⟨rfl, rfl, rfl, trivial⟩
  have lst : ∀ (r k : Nat), (k : Int) + r = u 0 1 → ∀ env, zsub env [(0, .ref b), (1, .ref N), (2, .int (iI (lstO (u 0) st k))), (3, .int (iI k))] → zW X (fun z h' => ∃ (c : Int) (p : Nat → Int), z = .inl (some (.ref N)) ∧ h' = sH b u (lH N c (pthS (u 0) o rd st).length (fun i => b + 52 + (p i).toNat) g) ∧ (pthS (u 0) o rd st).length ≤ 20 ∧ ∀ i : Nat, i < (pthS (u 0) o rd st).length → (pthS (u 0) o rd st)[i]? = some (p i) ∧ 0 ≤ p i ∧ p i < u 0 1) (sH b u (lH N 0 0 (fun i => b + 52 + ((fun _ => (0 : Int)) i).toNat) g)) 1 3 12 env [] := by
    intro r
    induction r with
    | zero =>
      intro k hk env he
      refine zW.cut he ?_
      have hlr := lstO_r (u 0) st k
      have bk := back 21 (lstO (u 0) st k) 0 (fun _ => 0) 0 [] (by omega) (fun hne => by
        have z := cntL_at (st := st) (x := st (lstO (u 0) st k).toNat) (i := (lstO (u 0) st k).toNat) (Int.le_refl _) (u 0 1).toNat (by omega)
        omega) (by omega) rfl (fun i hi => by omega) (by rw [show k = (u 0 1).toNat by omega]; rfl)
      refine z_iload_n K dX2_pathBackwards_12 rfl rfl ?_
      refine z_aload_n K dX2_pathBackwards_13 rfl rfl rfl ?_
      refine z_get K fd_X2_18_2 (sH_shop) rfl dX2_pathBackwards_14 ?_
      refine z_callV K (jl_size sH_ops) cV_X2_55_J2 (sH_ops) rfl rfl rfl (by omega) (by omega) (by omega) (Nat.le_of_ble_eq_true rfl) dX2_pathBackwards_17 zrX (zrK ?_)
      refine j_icmp_ge (tgt := 51) K dX2_pathBackwards_20 rfl (by omega) (by omega) (fun c_20 => ?_) (fun c_20 => ?_)
      · exact bk _ ⟨rfl, rfl, rfl, trivial⟩
      · exact absurd c_20 (by omega)
    | succ r ih =>
      intro k hk env he
      refine zW.cut he ?_
      have hlr := lstO_r (u 0) st k
      have ek := hend k (by omega) (by omega)
      have ar := hall k (by omega) (by omega)
      have ad := hdu k (by omega) (by omega)
      have el := fun hz => hend (lstO (u 0) st k) (hlr.resolve_left hz).1 (by have := (hlr.resolve_left hz).2; omega)
      have al := fun hz => hall (lstO (u 0) st k) (hlr.resolve_left hz).1 (by have := (hlr.resolve_left hz).2; omega)
      have dl := fun hz => hdu (lstO (u 0) st k) (hlr.resolve_left hz).1 (by have := (hlr.resolve_left hz).2; omega)
      have n1 : (lstO (u 0) st k = -1 ∨ st (lstO (u 0) st k).toNat + u 0 (82 + lstO (u 0) st k).toNat < st k + u 0 (82 + (k : Int)).toNat) → _ := fun hz => by
        have h9 := ih (k + 1) (by omega)
        rw [show lstO (u 0) st (k + 1) = k from if_pos hz] at h9
        exact h9
      have n2 : ¬ (lstO (u 0) st k = -1 ∨ st (lstO (u 0) st k).toNat + u 0 (82 + lstO (u 0) st k).toNat < st k + u 0 (82 + (k : Int)).toNat) → _ := fun hz => by
        have h9 := ih (k + 1) (by omega)
        rw [show lstO (u 0) st (k + 1) = lstO (u 0) st k from if_neg hz] at h9
        exact h9
      clear ih
      rw [Int.toNat_natCast] at ek ar
      refine z_iload_n K dX2_pathBackwards_12 rfl rfl ?_
      refine z_aload_n K dX2_pathBackwards_13 rfl rfl rfl ?_
      refine z_get K fd_X2_18_2 (sH_shop) rfl dX2_pathBackwards_14 ?_
      refine z_callV K (jl_size sH_ops) cV_X2_55_J2 (sH_ops) rfl rfl rfl (by omega) (by omega) (by omega) (Nat.le_of_ble_eq_true rfl) dX2_pathBackwards_17 zrX (zrK ?_)
      refine j_icmp_ge (tgt := 51) K dX2_pathBackwards_20 rfl (by omega) (by omega) (fun c_20 => ?_) (fun c_20 => ?_)
      · exact absurd c_20 (by omega)
      · refine z_iload_n K dX2_pathBackwards_23 rfl rfl ?_
        refine j_iconst K dX2_pathBackwards_24 ?_
        refine j_icmp_eq (tgt := 43) K dX2_pathBackwards_25 rfl (by omega) (by omega) (fun c_25 => ?_) (fun c_25 => ?_)
        · refine z_iload_n K dX2_pathBackwards_43 rfl rfl ?_
          refine z_istore_n K dX2_pathBackwards_44 rfl (by decide) rfl ?_
          refine j_iinc K dX2_pathBackwards_45 rfl (by decide) rfl ?_
          refine z_goto (tgt := 12) K dX2_pathBackwards_48 rfl ?_
          exact n1 (Or.inl c_25) _ ⟨rfl, rfl, rfl, rfl, trivial⟩
        · refine z_aload_n K dX2_pathBackwards_28 rfl rfl rfl ?_
          refine z_get K fd_X2_40_2 (sH_shop) rfl dX2_pathBackwards_29 ?_
          refine z_iload_n K dX2_pathBackwards_32 rfl rfl ?_
          refine j_ild K (sH_31) (by omega) (by omega) dX2_pathBackwards_33 ?_
          rw [Int.toNat_natCast, ek]
          refine z_aload_n K dX2_pathBackwards_34 rfl rfl rfl ?_
          refine z_get K fd_X2_40_2 (sH_shop) rfl dX2_pathBackwards_35 ?_
          refine z_iload_n K dX2_pathBackwards_38 rfl rfl ?_
          refine j_ild K (sH_31) (by omega) (by omega) dX2_pathBackwards_39 ?_
          rw [el c_25]
          refine j_icmp_le (tgt := 45) K dX2_pathBackwards_40 rfl (by omega) (by have := al c_25; have := dl c_25; omega) (fun c_40 => ?_) (fun c_40 => ?_)
          · refine j_iinc K dX2_pathBackwards_45 rfl (by decide) rfl ?_
            refine z_goto (tgt := 12) K dX2_pathBackwards_48 rfl ?_
            exact n2 (by omega) _ ⟨rfl, rfl, rfl, rfl, trivial⟩
          · refine z_iload_n K dX2_pathBackwards_43 rfl rfl ?_
            refine z_istore_n K dX2_pathBackwards_44 rfl (by decide) rfl ?_
            refine j_iinc K dX2_pathBackwards_45 rfl (by decide) rfl ?_
            refine z_goto (tgt := 12) K dX2_pathBackwards_48 rfl ?_
            exact n1 (Or.inr c_40) _ ⟨rfl, rfl, rfl, rfl, trivial⟩
  have hi := jl_newS (b := b) (u := u) (g := g) (L := N) (f := fun i => b + 52 + ((fun _ => (0 : Int)) i).toNat) hAm hTp hN hb
  refine z_new K (N) nw_X2_9 ((sH_out (by omega)).trans (hTp N (Nat.le_refl N))) (by omega) (by omega) (by omega) dX2_pathBackwards_0 ?_
  refine z_dup K dX2_pathBackwards_3 rfl ?_
  refine z_cI (fs := []) K (hi) cI_X2_11 rfl rfl (by omega) (by omega) (by omega) (Nat.le_of_ble_eq_true rfl) dX2_pathBackwards_4 zvX (zvK ?_)
  refine z_astore_n K dX2_pathBackwards_7 rfl rfl (by decide) rfl ?_
  refine j_iconst K dX2_pathBackwards_8 ?_
  refine z_istore_n K dX2_pathBackwards_9 rfl (by decide) rfl ?_
  refine j_iconst K dX2_pathBackwards_10 ?_
  refine z_istore_n K dX2_pathBackwards_11 rfl (by decide) rfl ?_
  exact lst (u 0 1).toNat 0 (by omega) _ ⟨rfl, rfl, rfl, rfl, trivial⟩
end XPb

