/-! ===== the component: what the dispatcher keeps ===== -/
section XKp
variable {b D : Nat} {u : tW} {g : zH} {rl ea t : Int}
theorem x10_keep {gx0 fx0 : Nat → Int} (hb : 1000 ≤ b) (hD : b + 72 ≤ D) (hA : WfA (u 0)) (hO : WfO (u 0)) (h3 : T3 u) (ht : 0 ≤ t ∧ t ≤ 999) (hK0 : KI (u 0) (u 3) t 0 0 gx0 fx0) (hg0 : ∀ j : Nat, j < 5 → 0 ≤ gx0 j ∧ gx0 j ≤ 1000)
    (hmn : ∀ m p q : Int, 0 ≤ m → m ≤ 3 → 0 ≤ p → p ≤ q → q < sOn (u 0) m → t ≤ u 3 (sOr (u 0) m p).toNat → t ≤ u 3 (sOr (u 0) m q).toNat) :
    zMet yX10_keep (ws_ yX10_keep cX10_keep 5 none) 4 [.ref D, .int (iI t)] (sH b u (dp D b rl ea fx0 gx0 g)) (fun z h' => ∃ gx fx, z = .inl none ∧ h' = sH b (wRow u (sKp (u 0) (u 3) t 4)) (dp D b rl ea fx gx g) ∧ KI (u 0) (u 3) t 4 0 gx fx) 0 0 := by
  have h20 := hA.2.1.1
  have h05 := hA.1.1
  refine zMet.of (by decide) (Nat.le_of_ble_eq_true rfl) fun X K => ?_
  generalize hQ : (fun (z : zO) (h' : zH) => ∃ gx fx, z = .inl none ∧ h' = sH b (wRow u (sKp (u 0) (u 3) t 4)) (dp D b rl ea fx gx g) ∧ KI (u 0) (u 3) t 4 0 gx fx) = Q
  have hq : ∀ gx fx, KI (u 0) (u 3) t 4 0 gx fx → Q (.inl none) (sH b (wRow u (sKp (u 0) (u 3) t 4)) (dp D b rl ea fx gx g)) := fun gx fx h => by rw [← hQ]; exact ⟨gx, fx, rfl, rfl, h⟩
  clear hQ
  have l1 : ∀ (r m : Nat), m + r = 4 → ∀ (v : tW) (gx fx : Nat → Int), v = wRow u (sKp (u 0) (u 3) t m) → KI (u 0) (u 3) t m 0 gx fx → (∀ j : Nat, j < 5 → 0 ≤ gx j ∧ gx j ≤ 1000 + 5 * m) → ∀ env, zsub env [(0, .ref D), (1, .int (iI t)), (2, .int (iI m))] → zW X Q (sH b v (dp D b rl ea fx gx g)) 0 0 2 env [] := by
    intro r
    induction r with
    | zero =>
      intro m hm v gx fx hv hK hgr env he
      obtain rfl : m = 4 := by omega
      refine zW.cut he ?_
      have hfin := hq gx fx hK
      rw [← hv] at hfin
      refine z_iload_n K dX10_keep_2 rfl rfl ?_
      refine j_iconst K dX10_keep_3 ?_
      refine j_icmp_ge (tgt := 130) K dX10_keep_4 rfl (by omega) (by omega) (fun c_4 => ?_) (fun c_4 => ?_)
      · exact z_vret K (by omega) (by omega) (hfin) dX10_keep_130
      · exact absurd c_4 (by omega)
    | succ r ih =>
      intro m hm v gx fx hv hK hgr env he
      refine zW.cut he ?_
      obtain ⟨o1, o2, o3, o4⟩ := hO m (by omega) (by omega)
      have v3 : v 3 = u 3 := by rw [hv]; exact wRow_f (by decide)
      have v0 : v 0 = sKp (u 0) (u 3) t m := by rw [hv]; exact wRow_0
      have vn : v 0 (179 + (m : Int)).toNat = sOn (u 0) m := by rw [v0]; exact if_neg (by omega)
      have vlo : ∀ i, i < 179 ∨ 183 ≤ i → v 0 i = u 0 i := fun i hi => by rw [v0]; exact if_neg (by omega)
      have hJv : WfJ (v 0) := hA.1.lo fun i hi => vlo i (by omega)
      have k118 : ∀ (gx fx : Nat → Int) (p : Int), 0 ≤ p → p ≤ 5 → p = kN (u 0) (u 3) t m (sOn (u 0) m).toNat 0 → KI (u 0) (u 3) t m p gx fx → (∀ j : Nat, j < 5 → 0 ≤ gx j ∧ gx j ≤ 1000 + 5 * m + p) → (∀ q : Int, p ≤ q → q < sOn (u 0) m → t ≤ u 3 (sOr (u 0) m q).toNat) → ∀ env, zsub env [(0, .ref D), (1, .int (iI t)), (2, .int (iI m)), (3, .ref (b + 20 + (m : Int).toNat)), (4, .int (iI p))] → zW X Q (sH b v (dp D b rl ea fx gx g)) 0 0 118 env [] := by
        intro gx fx p p0 p5 hp hK hgr hq9 env he
        refine zW.cut he ?_
        have hw : tset v 0 (179 + (m : Int)).toNat p = wRow u (sKp (u 0) (u 3) t (m + 1)) := by
          funext f
          by_cases z : f = 0
          · subst z
            rw [tsP, v0, wRow_0, ← sKp_s, hp, show (179 + (m : Int)).toNat = 179 + m by omega, show sOn (u 0) m = u 0 (179 + m) from congrArg (u 0) (by omega)]
          · rw [tsG z, wRow_f z, hv, wRow_f z]
        have nx := ih (m + 1) (by omega) _ gx fx hw (by have := hK.next hA hO (by omega) p0 hq9; exact this) (fun j hj => by have := hgr j hj; omega)
        clear ih
        refine z_aload_n K dX10_keep_118 rfl rfl rfl ?_
        refine z_iload K dX10_keep_119 rfl ?_
        refine z_putE K fd_X10_43_3 ⟨_, rfl, Or.inl rfl⟩ (sH_ord ⟨by omega, by omega⟩) (by omega) (Nat.le_of_ble_eq_true rfl) (zf_i) dX10_keep_121 (sH_osz hJv ⟨by omega, by omega⟩) ?_
        refine j_iinc K dX10_keep_124 rfl (by decide) rfl ?_
        refine z_goto (tgt := 2) K dX10_keep_127 rfl ?_
        exact nx _ ⟨rfl, rfl, rfl, trivial⟩
      have l2 : ∀ (r : Nat) (p : Int), 0 ≤ p → p + r = sOn (u 0) m → kN (u 0) (u 3) t m r p = kN (u 0) (u 3) t m (sOn (u 0) m).toNat 0 → ∀ gx fx, KI (u 0) (u 3) t m p gx fx → (∀ j : Nat, j < 5 → 0 ≤ gx j ∧ gx j ≤ 1000 + 5 * m + p) → ∀ env, zsub env [(0, .ref D), (1, .int (iI t)), (2, .int (iI m)), (3, .ref (b + 20 + (m : Int).toNat)), (4, .int (iI p))] → zW X Q (sH b v (dp D b rl ea fx gx g)) 0 0 25 env [] := by
        intro r
        induction r with
        | zero =>
          intro p p0 hpr hkn gx fx hK hgr env he
          refine zW.cut he ?_
          have kk := k118 gx fx p p0 (by omega) hkn hK hgr (fun q q1 q2 => by omega)
          clear k118 ih
          refine z_iload K dX10_keep_25 rfl ?_
          refine z_aload_n K dX10_keep_27 rfl rfl rfl ?_
          refine z_get K fd_X10_43_3 (sH_ord ⟨by omega, by omega⟩) rfl dX10_keep_28 ?_
          rw [vn]
          refine j_icmp_ge (tgt := 118) K dX10_keep_31 rfl (by omega) (by omega) (fun c_31 => ?_) (fun c_31 => ?_)
          · exact kk _ ⟨rfl, rfl, rfl, rfl, rfl, trivial⟩
          · exact absurd c_31 (by omega)
        | succ r ihp =>
          intro p p0 hpr hkn gx fx hK hgr env he
          refine zW.cut he ?_
          obtain ⟨q1, q2⟩ := o2 p p0 (by omega)
          have hjb := (hA.2.1.2 _ q1.1 q1.2).1
          have er : v 0 (183 + 5 * (m : Int) + p).toNat = sOr (u 0) m p := vlo _ (Or.inr (by omega))
          have h3p := h3 (sOr (u 0) m p).toNat
          have ev1 : v 0 1 = u 0 1 := vlo 1 (by omega)
          have ej : v 0 (42 + sOr (u 0) m p).toNat = sJb (u 0) (sOr (u 0) m p) := vlo _ (by omega)
          by_cases hlt : u 3 (sOr (u 0) m p).toNat < t
          · have nx := ihp (p + 1) (by omega) (by omega) (by rw [← hkn, kN, if_pos hlt]) _ _ (hK.step hA hO (by omega) ⟨p0, by omega⟩ hlt) (fun j hj => by
              have a := hgr j hj
              have c := hgr (sJb (u 0) (sOr (u 0) m p)).toNat (by omega)
              by_cases z : j = (sJb (u 0) (sOr (u 0) m p)).toNat
              · rw [z, sup_s]; omega
              · rw [sup_n z]; omega)
            have c := hgr (sJb (u 0) (sOr (u 0) m p)).toNat (by omega)
            clear ihp k118 ih
            generalize sOr (u 0) m p = o at *
            refine z_iload K dX10_keep_25 rfl ?_
            refine z_aload_n K dX10_keep_27 rfl rfl rfl ?_
            refine z_get K fd_X10_43_3 (sH_ord ⟨by omega, by omega⟩) rfl dX10_keep_28 ?_
            rw [vn]
            refine j_icmp_ge (tgt := 118) K dX10_keep_31 rfl (by omega) (by omega) (fun c_31 => ?_) (fun c_31 => ?_)
            · exact absurd c_31 (by omega)
            · refine z_aload_n K dX10_keep_34 rfl rfl rfl ?_
              refine z_get K fd_X10_18_9 (sdp_0 hD) rfl dX10_keep_35 ?_
              refine z_get K fd_X10_46_2 (sH_shop) rfl dX10_keep_38 ?_
              refine z_aload_n K dX10_keep_41 rfl rfl rfl ?_
              refine z_get K fd_X10_49_3 (sH_ord ⟨by omega, by omega⟩) rfl dX10_keep_42 ?_
              refine z_iload K dX10_keep_45 rfl ?_
              refine s_ldrow K (⟨by omega, by omega⟩) (by omega) (by omega) dX10_keep_47 ?_
              rw [er]
              refine j_ild K (sH_30) (by omega) (by omega) dX10_keep_48 ?_
              rw [v3]
              refine z_iload_n K dX10_keep_49 rfl rfl ?_
              refine j_icmp_ge (tgt := 118) K dX10_keep_50 rfl (by omega) (by omega) (fun c_50 => ?_) (fun c_50 => ?_)
              · exact absurd c_50 (by omega)
              · refine z_aload_n K dX10_keep_53 rfl rfl rfl ?_
                refine z_get K fd_X10_9_9 (sdp_0 hD) rfl dX10_keep_54 ?_
                refine z_aload_n K dX10_keep_57 rfl rfl rfl ?_
                refine z_get K fd_X10_49_3 (sH_ord ⟨by omega, by omega⟩) rfl dX10_keep_58 ?_
                refine z_iload K dX10_keep_61 rfl ?_
                refine s_ldrow K (⟨by omega, by omega⟩) (by omega) (by omega) dX10_keep_63 ?_
                rw [er]
                refine z_aload_n K dX10_keep_64 rfl rfl rfl ?_
                refine z_get K fd_X10_18_9 (sdp_0 hD) rfl dX10_keep_65 ?_
                refine z_get K fd_X10_46_2 (sH_shop) rfl dX10_keep_68 ?_
                refine z_aload_n K dX10_keep_71 rfl rfl rfl ?_
                refine z_get K fd_X10_49_3 (sH_ord ⟨by omega, by omega⟩) rfl dX10_keep_72 ?_
                refine z_iload K dX10_keep_75 rfl ?_
                refine s_ldrow K (⟨by omega, by omega⟩) (by omega) (by omega) dX10_keep_77 ?_
                rw [er]
                refine j_ild K (sH_30) (by omega) (by omega) dX10_keep_78 ?_
                rw [v3]
                refine j_istE K (sdp_1 hD) (by omega) (by omega) (by omega) dX10_keep_79 (sdp_st hD) ?_
                refine z_aload_n K dX10_keep_80 rfl rfl rfl ?_
                refine z_get K fd_X10_15_9 (sdp_0 hD) rfl dX10_keep_81 ?_
                refine z_aload_n K dX10_keep_84 rfl rfl rfl ?_
                refine z_get K fd_X10_18_9 (sdp_0 hD) rfl dX10_keep_85 ?_
                refine z_get K fd_X10_52_2 (sH_shop) rfl dX10_keep_88 ?_
                refine z_aload_n K dX10_keep_91 rfl rfl rfl ?_
                refine z_get K fd_X10_49_3 (sH_ord ⟨by omega, by omega⟩) rfl dX10_keep_92 ?_
                refine z_iload K dX10_keep_95 rfl ?_
                refine s_ldrow K (⟨by omega, by omega⟩) (by omega) (by omega) dX10_keep_97 ?_
                rw [er]
                refine z_callV K (gt_ops ⟨by omega, by omega⟩ (by omega)) cV_X10_35_J2 (sH_ops) rfl rfl rfl (by omega) (by omega) (by omega) (Nat.le_of_ble_eq_true rfl) dX10_keep_98 zrX (zrK ?_)
                refine z_castS K (sH_op ⟨by omega, by omega⟩ (by omega)) rfl q1164 dX10_keep_101 ?_
                refine z_get K fd_X10_57_5 (sH_op ⟨by omega, by omega⟩ (by omega)) rfl dX10_keep_104 ?_
                rw [ej]
                refine z_dup2 K dX10_keep_107 rfl rfl ?_
                refine j_ild K (sdp_2 hD) (by omega) (by omega) dX10_keep_108 ?_
                refine j_iconst K dX10_keep_109 ?_
                refine j_iadd K dX10_keep_110 ?_
                refine j_istE K (sdp_2 hD) (by omega) (by omega) (by omega) dX10_keep_111 (sdp_nx hD) ?_
                refine j_iinc K dX10_keep_112 rfl (by decide) rfl ?_
                refine z_goto (tgt := 25) K dX10_keep_115 rfl ?_
                exact nx _ ⟨rfl, rfl, rfl, rfl, rfl, trivial⟩
          · have kk := k118 gx fx p p0 (by omega) (by rw [← hkn, kN, if_neg hlt]) hK hgr (fun q q1 q2 => hmn m p q (by omega) (by omega) p0 q1 q2 (by omega))
            clear ihp k118 ih
            generalize sOr (u 0) m p = o at *
            refine z_iload K dX10_keep_25 rfl ?_
            refine z_aload_n K dX10_keep_27 rfl rfl rfl ?_
            refine z_get K fd_X10_43_3 (sH_ord ⟨by omega, by omega⟩) rfl dX10_keep_28 ?_
            rw [vn]
            refine j_icmp_ge (tgt := 118) K dX10_keep_31 rfl (by omega) (by omega) (fun c_31 => ?_) (fun c_31 => ?_)
            · exact absurd c_31 (by omega)
            · refine z_aload_n K dX10_keep_34 rfl rfl rfl ?_
              refine z_get K fd_X10_18_9 (sdp_0 hD) rfl dX10_keep_35 ?_
              refine z_get K fd_X10_46_2 (sH_shop) rfl dX10_keep_38 ?_
              refine z_aload_n K dX10_keep_41 rfl rfl rfl ?_
              refine z_get K fd_X10_49_3 (sH_ord ⟨by omega, by omega⟩) rfl dX10_keep_42 ?_
              refine z_iload K dX10_keep_45 rfl ?_
              refine s_ldrow K (⟨by omega, by omega⟩) (by omega) (by omega) dX10_keep_47 ?_
              rw [er]
              refine j_ild K (sH_30) (by omega) (by omega) dX10_keep_48 ?_
              rw [v3]
              refine z_iload_n K dX10_keep_49 rfl rfl ?_
              refine j_icmp_ge (tgt := 118) K dX10_keep_50 rfl (by omega) (by omega) (fun c_50 => ?_) (fun c_50 => ?_)
              · exact kk _ ⟨rfl, rfl, rfl, rfl, rfl, trivial⟩
              · exact absurd c_50 (by omega)
      have go := l2 (sOn (u 0) m).toNat 0 (by omega) (by omega) rfl gx fx hK (fun j hj => by have := hgr j hj; omega)
      clear l2 k118 ih
      refine z_iload_n K dX10_keep_2 rfl rfl ?_
      refine j_iconst K dX10_keep_3 ?_
      refine j_icmp_ge (tgt := 130) K dX10_keep_4 rfl (by omega) (by omega) (fun c_4 => ?_) (fun c_4 => ?_)
      · exact absurd c_4 (by omega)
      · refine z_aload_n K dX10_keep_7 rfl rfl rfl ?_
        refine z_get K fd_X10_18_9 (sdp_0 hD) rfl dX10_keep_8 ?_
        refine z_get K fd_X10_29_2 (sH_shop) rfl dX10_keep_11 ?_
        refine z_iload_n K dX10_keep_14 rfl rfl ?_
        refine z_callV K (gt_ord ⟨by omega, by omega⟩) cV_X10_35_J2 (sH_ords) rfl rfl rfl (by omega) (by omega) (by omega) (Nat.le_of_ble_eq_true rfl) dX10_keep_15 zrX (zrK ?_)
        refine z_castS K (sH_ord ⟨by omega, by omega⟩) rfl q1163 dX10_keep_18 ?_
        refine z_astore_n K dX10_keep_21 rfl rfl (by decide) rfl ?_
        refine j_iconst K dX10_keep_22 ?_
        refine z_istore K dX10_keep_23 (by decide) rfl ?_
        exact go _ ⟨rfl, rfl, rfl, rfl, rfl, trivial⟩
  have e : u = wRow u (sKp (u 0) (u 3) t 0) := by
    funext f
    by_cases z : f = 0
    · subst z
      rw [wRow_0]
      funext i
      exact (if_neg (by omega)).symm
    · rw [wRow_f z]
  have go := l1 4 0 (by omega) u gx0 fx0 e hK0 (fun j hj => by have := hg0 j hj; omega)
  have go : ∀ env, zsub env [(0, .ref D), (1, .int (iI t)), (2, .int (iI 0))] → zW X Q (sH b u (dp D b rl ea fx0 gx0 g)) 0 0 2 env [] := go
  clear l1
  refine j_iconst K dX10_keep_0 ?_
  refine z_istore_n K dX10_keep_1 rfl (by decide) rfl ?_
  exact go _ ⟨rfl, rfl, rfl, trivial⟩
end XKp

