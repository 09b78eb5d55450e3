/-! ===== the reference: repair ===== -/
noncomputable def tcRep (t u : Int) : Int := if (0 ≤ t ∧ t ≤ 999) ∧ 0 ≤ u ∧ u ≤ 3 then 0 else 1
def repQ (w : tW) (u t : Int) (v : Int) (w' : tW) : Prop := ∃ rd st g fx, Tp (w 0) (w 13) (-1) 0 rd st ∧ Tq (w 0) (w 13) st ∧ KI (w 0) st t 4 0 g fx ∧ bQ w u t (sKp (w 0) st t 4) g fx v w'
theorem tw_repair {w : tW} {t u : Int} (ht : -2147483648 ≤ t ∧ t ≤ 2147483647) (hu : -2147483648 ≤ u ∧ u ≤ 2147483647) (hI : TI w) (hac : ∀ rd st, fT w 500 rd st → cntU st (w 0 1).toNat = 0) : tMi yX4_repair cX4_repair 7 .int 7 [.int (iI t), .int (iI u)] w (pubQ w (tcRep t u) (repQ w u t)) := by
  refine zMet.of (by decide) (Nat.le_of_ble_eq_true rfl) fun X K => ?_
  have hA := hI.1
  have hO := hI.2.1
  have h20 := hA.2.1.1
  have h05 := hA.1.1
  have tail : ∀ c : Int, c = tcRep t u → 0 ≤ c ∧ c ≤ 1 → (c = 0 → (0 ≤ t ∧ t ≤ 999) ∧ 0 ≤ u ∧ u ≤ 3) → ∀ env, zsub env [(0, .ref 1000), (1, .int (iI t)), (2, .int (iI u))] → zW X (zPi fun x h' => ∃ v9 w', x = iI v9 ∧ h' = tH w' ∧ pubQ w (tcRep t u) (repQ w u t) v9 w') (tH w) 0 0 30 env [.int (iI c), .ref 1000] := by
    intro c hc hr h5 env he
    refine zW.cut he ?_
    have body : c = 0 → ∀ rd st, fT w 500 rd st → ∀ env, zsub env [(0, .ref 1000), (1, .int (iI t)), (2, .int (iI u)), (4, .int (iI 0))] → zW X (zPi fun x h' => ∃ v9 w', x = iI v9 ∧ h' = tH w' ∧ pubQ w (tcRep t u) (repQ w u t) v9 w') (tH (wt (tset w 3 0 0) rd st)) 0 0 50 env [] := by
      rintro rfl rd st hT
      have h7 := h5 rfl
      generalize hW : wt (tset w 3 0 0) rd st = W
      have W0 : W 0 = w 0 := by rw [← hW]; rfl
      have W18 : W 18 = w 18 := by rw [← hW]; rfl
      have W19 : W 19 = w 19 := by rw [← hW]; rfl
      have W12 : W 12 = st := by rw [← hW]; rfl
      have W3 : W 3 0 = 0 := by rw [← hW]; rfl
      have Wf : ∀ f, f ≠ 3 → f ≠ 11 → f ≠ 12 → W f = w f := fun f f3 f11 f12 => by rw [← hW, wt_o f11 f12]; funext i; exact tset_f f3
      have hTp : Tp (w 0) (w 13) (-1) 0 rd st := by have := hT.1; rw [hI.2.2.2.1] at this; exact this.hu
      have hTq : Tq (w 0) (w 13) st := hT.2.1
      have hs : ∀ k : Int, 0 ≤ k → k < w 0 1 → 0 ≤ st k.toNat := fun k k0 k1 => cntU_0.mp (hac rd st hT) k.toNat (by omega)
      have hb : ∀ k : Int, 0 ≤ k → k < w 0 1 → st k.toNat ≤ 2000 := fun k k0 k1 => by have := (hT.2.2 k.toNat (by omega)).2; omega
      have k183 : ∀ g fx, KI (w 0) st t 4 0 g fx → ∀ env, zsub env [(0, .ref 1000), (1, .int (iI t)), (2, .int (iI u))] → zW X (zPi fun x h' => ∃ v9 w', x = iI v9 ∧ h' = tH w' ∧ pubQ w (tcRep t u) (repQ w u t) v9 w') (tH (w3 W (sKp (w 0) st t 4) g fx)) 0 0 183 env [] := by
        intro g fx hK env he
        refine zW.cut he ?_
        have hBI := hK.bi hA hO hTp hI.2.2.1 hs h7.1.2
        obtain ⟨b1, b2, b3⟩ := bld_ok (u := u) (t := t) h7.1 20 _ _ _ hBI (by have := hBI.rr; omega)
        have b4 := b1.whole (fun j j0 j1 => by
          rw [b3 0 (by omega)] at j1
          have h05 := hBI.A.1.1
          rw [b2 j j0 j1]
          exact (b3 _ (by omega)).symm)
        have b5 := b1.A
        have hB : bld u t 21 (sKp (w 0) st t 4) g fx = bld u t (20 + 1) (sKp (w 0) st t 4) g fx := rfl
        rw [← hB] at b4 b5
        generalize hs1 : sKp (w 0) st t 4 = s1 at *
        refine z_aload_n K dX4_repair_183 rfl rfl rfl ?_
        refine z_iload_n K dX4_repair_184 rfl rfl ?_
        refine z_iload_n K dX4_repair_185 rfl rfl ?_
        refine t_callv K (tw_build (w := w3 W s1 g fx) h7.2 h7.1 hBI) cV_X4_241_X4 rfl rfl (by decide) (Nat.le_of_ble_eq_true rfl) (Nat.le_refl _) (Nat.le_refl _) dX4_repair_186 ?_
        rintro _ rfl
        rw [show wBld (w3 W s1 g fx) u t (w3 W s1 g fx 0) (w3 W s1 g fx 18) (w3 W s1 g fx 19) 21 = w3 (w3 W s1 g fx) (bld u t 21 s1 g fx).1 (bld u t 21 s1 g fx).2.1 (bld u t 21 s1 g fx).2.2 from rfl]
        generalize hw1 : w3 (w3 W s1 g fx) (bld u t 21 s1 g fx).1 (bld u t 21 s1 g fx).2.1 (bld u t 21 s1 g fx).2.2 = w1
        have f0 : w1 0 = (bld u t 21 s1 g fx).1 := by rw [← hw1]; rfl
        have f3 : w1 3 0 = 0 := by rw [← hw1, w3_f (by decide) (by decide) (by decide), w3_f (by decide) (by decide) (by decide)]; exact W3
        have fo : ∀ f, f ≠ 0 → f ≠ 3 → f ≠ 11 → f ≠ 12 → f ≠ 18 → f ≠ 19 → w1 f = w f := fun f f0 f3 f11 f12 f18 f19 => by rw [← hw1, w3_f f0 f18 f19, w3_f f0 f18 f19]; exact Wf f f3 f11 f12
        have f13 : w1 13 = w 13 := fo 13 (by decide) (by decide) (by decide) (by decide) (by decide) (by decide)
        have f14 : w1 14 = w 14 := fo 14 (by decide) (by decide) (by decide) (by decide) (by decide) (by decide)
        have f15 : w1 15 = w 15 := fo 15 (by decide) (by decide) (by decide) (by decide) (by decide) (by decide)
        refine z_aload_n K dX4_repair_189 rfl rfl rfl ?_
        refine t_calli K (tw_makespanNow (w := w1) (bb := 500) (by omega) (Or.inl (by rw [f14]; exact hI.2.2.2.1)) (by rw [f0]; exact b5) (by rw [f0]; exact b4) (by rw [f13]; exact hI.ho) (by rw [f14, hI.2.2.2.1]; omega) (by rw [f15]; exact hI.2.2.2.2.1)) cV_X4_188_X4 rfl rfl (by decide) (Nat.le_of_ble_eq_true rfl) (Nat.le_refl _) (Nat.le_refl _) dX4_repair_190 ?_
        rintro v1 w2 ⟨rd1, st1, rfl, hT1, hv⟩
        have hTp1 : Tp (bld u t 21 s1 g fx).1 (w 13) (-1) 0 rd1 st1 := by have := hT1.1; rw [f0, f13, f14, hI.2.2.2.1] at this; exact this.hu
        have hTq1 : Tq (bld u t 21 s1 g fx).1 (w 13) st1 := by have := hT1.2.1; rw [f0, f13] at this; exact this
        exact t_iret K (Nat.le_refl _) (Nat.le_refl _) (⟨fun q => ⟨rd, st, g, fx, hTp, hTq, hK, by rw [hs1]; exact ⟨rd1, st1, hTp1, hTq1, fun f hf => (by rw [wt_o (fun e => hf (by rw [e]; decide)) (fun e => hf (by rw [e]; decide))]; exact fo f (fun e => hf (by rw [e]; decide)) (fun e => hf (by rw [e]; decide)) (fun e => hf (by rw [e]; decide)) (fun e => hf (by rw [e]; decide)) (fun e => hf (by rw [e]; decide)) (fun e => hf (by rw [e]; decide))), f0, f3, by rw [hv, f0]⟩⟩, fun q => absurd hc.symm q⟩) dX4_repair_193
      have l2 : ∀ (r m : Nat), m + r = 4 → ∀ g fx, KI (w 0) st t m 0 g fx → ∀ env, zsub env [(0, .ref 1000), (1, .int (iI t)), (2, .int (iI u)), (4, .int (iI m))] → zW X (zPi fun x h' => ∃ v9 w', x = iI v9 ∧ h' = tH w' ∧ pubQ w (tcRep t u) (repQ w u t) v9 w') (tH (w3 W (sKp (w 0) st t m) g fx)) 0 0 73 env [] := by
        intro r
        induction r with
        | zero =>
          intro m hm g fx hK env he
          obtain rfl : m = 4 := by omega
          refine zW.cut he ?_
          refine z_iload K dX4_repair_73 rfl ?_
          refine j_iconst K dX4_repair_75 ?_
          refine j_icmp_ge (tgt := 183) K dX4_repair_76 rfl (by omega) (by omega) (fun c_76 => ?_) (fun c_76 => ?_)
          · exact k183 g fx hK _ ⟨rfl, rfl, rfl, trivial⟩
          · exact absurd c_76 (by omega)
        | succ r ih =>
          intro m hm g fx hK env he
          refine zW.cut he ?_
          obtain ⟨o1, o2, o3, o4⟩ := hO m (by omega) (by omega)
          have on : sKp (w 0) st t m (179 + (m : Int)).toNat = w 0 (179 + (m : Int)).toNat := if_neg (by omega)
          have k164 : ∀ g fx (p : Int), 0 ≤ p → p ≤ 5 → p = kN (w 0) st t m (sOn (w 0) m).toNat 0 → KI (w 0) st t m p g fx → (∀ q : Int, p ≤ q → q < sOn (w 0) m → t ≤ st (sOr (w 0) m q).toNat) → ∀ env, zsub env [(0, .ref 1000), (1, .int (iI t)), (2, .int (iI u)), (4, .int (iI m)), (5, .int (iI p))] → zW X (zPi fun x h' => ∃ v9 w', x = iI v9 ∧ h' = tH w' ∧ pubQ w (tcRep t u) (repQ w u t) v9 w') (tH (w3 W (sKp (w 0) st t m) g fx)) 0 0 164 env [] := by
            intro g fx p p0 p5 hp hK hq env he
            refine zW.cut he ?_
            have nx := ih (m + 1) (by omega) g fx (by have := hK.next hA hO (by omega) p0 hq; exact this)
            rw [← sKp_s] at nx
            rw [show kN (w 0) st t m (w 0 (179 + m)).toNat 0 = p by rw [hp, show (179 + m : Nat) = (179 + (m : Int)).toNat by omega]] at nx
            refine z_aload_n K dX4_repair_164 rfl rfl rfl ?_
            refine t_geta K fd_X4_9_0 rfl dX4_repair_165 ?_
            refine j_sipush K dX4_repair_168 (by decide +kernel) ?_
            refine z_iload K dX4_repair_171 rfl ?_
            refine j_iadd K dX4_repair_173 ?_
            refine z_iload K dX4_repair_174 rfl ?_
            refine t_ist K 0 203 rfl rfl rfl (by omega) (by omega) rfl dX4_repair_176 ?_
            rw [w3_s, show (179 + (m : Int)).toNat = 179 + m by omega]
            refine j_iinc K dX4_repair_177 rfl (by decide) rfl ?_
            refine z_goto (tgt := 73) K dX4_repair_180 rfl ?_
            exact nx _ ⟨rfl, rfl, rfl, rfl, trivial⟩
          have l3 : ∀ (r1 : Nat) (p : Int), 0 ≤ p → p + r1 = sOn (w 0) m → kN (w 0) st t m r1 p = kN (w 0) st t m (sOn (w 0) m).toNat 0 → ∀ g fx, KI (w 0) st t m p g fx → ∀ env, zsub env [(0, .ref 1000), (1, .int (iI t)), (2, .int (iI u)), (4, .int (iI m)), (5, .int (iI p))] → zW X (zPi fun x h' => ∃ v9 w', x = iI v9 ∧ h' = tH w' ∧ pubQ w (tcRep t u) (repQ w u t) v9 w') (tH (w3 W (sKp (w 0) st t m) g fx)) 0 0 82 env [] := by
            intro r1
            induction r1 with
            | zero =>
              intro p p0 hp hk g fx hK env he
              refine zW.cut he ?_
              clear ih
              have hpn : w 0 (179 + (m : Int)).toNat = p := by (try dsimp only [sRel, sDue, sWt, sLen, sSeq, sJb, sMc, sDu, sFa, sIx, sSu, sBn, sBf, sBl, sOn, sOr] at *); omega
              refine z_iload K dX4_repair_82 rfl ?_
              refine z_aload_n K dX4_repair_84 rfl rfl rfl ?_
              refine t_geta K fd_X4_9_0 rfl dX4_repair_85 ?_
              refine j_sipush K dX4_repair_88 (by decide +kernel) ?_
              refine z_iload K dX4_repair_91 rfl ?_
              refine j_iadd K dX4_repair_93 ?_
              refine t_ild K 0 203 rfl rfl rfl (by omega) (by omega) rfl dX4_repair_94 ?_
              simp only [w30]
              rw [on]
              refine j_icmp_ge (tgt := 164) K dX4_repair_95 rfl (by omega) (by omega) (fun c_95 => ?_) (fun c_95 => ?_)
              · exact k164 g fx p p0 (by omega) hk hK (fun q q0 q1 => by omega) _ ⟨rfl, rfl, rfl, rfl, rfl, trivial⟩
              · exact absurd c_95 (by (try dsimp only [sRel, sDue, sWt, sLen, sSeq, sJb, sMc, sDu, sFa, sIx, sSu, sBn, sBf, sBl, sOn, sOr] at *); omega)
            | succ r1 ih1 =>
              intro p p0 hp hk g fx hK env he
              refine zW.cut he ?_
              clear ih
              obtain ⟨q1, q2⟩ := o2 p p0 (by omega)
              obtain ⟨a1, a2, -⟩ := hA.2.1.2 _ q1.1 q1.2
              have hst := hK.step hA hO (p := p) (by omega) (by omega)
              have hso := hs _ q1.1 q1.2
              have hbo := hb _ q1.1 q1.2
              have eo : sKp (w 0) st t m (183 + 5 * (m : Int) + p).toNat = w 0 (183 + 5 * (m : Int) + p).toNat := if_neg (by omega)
              have ek : kN (w 0) st t m (r1 + 1) p = if st (sOr (w 0) m p).toNat < t then kN (w 0) st t m r1 (p + 1) else p := rfl
              have hmo : t ≤ st (sOr (w 0) m p).toNat → ∀ q : Int, p ≤ q → q < sOn (w 0) m → t ≤ st (sOr (w 0) m q).toNat := fun z q z0 z1 => by
                have y := Tp.mono hA hO hTp (m := m) (by omega) (hI.2.2.1 m (by omega)) p0 hs (q - p).toNat (by omega)
                rw [show p + (((q - p).toNat : Nat) : Int) = q by omega] at y
                omega
              have hp5 : p ≤ 5 := by omega
              have hpn : p < w 0 (179 + (m : Int)).toNat := by (try dsimp only [sRel, sDue, sWt, sLen, sSeq, sJb, sMc, sDu, sFa, sIx, sSu, sBn, sBf, sBl, sOn, sOr] at *); omega
              have nx : st (sOr (w 0) m p).toNat < t → ∀ g fx, KI (w 0) st t m (p + 1) g fx → ∀ env, zsub env [(0, .ref 1000), (1, .int (iI t)), (2, .int (iI u)), (4, .int (iI m)), (5, .int (iI (p + 1)))] → zW X (zPi fun x h' => ∃ v9 w', x = iI v9 ∧ h' = tH w' ∧ pubQ w (tcRep t u) (repQ w u t) v9 w') (tH (w3 W (sKp (w 0) st t m) g fx)) 0 0 82 env [] := fun z g fx hK => ih1 (p + 1) (by omega) (by omega) (by rw [← hk, ek, if_pos z]) g fx hK
              clear ih1
              have ejb : sKp (w 0) st t m (42 + sOr (w 0) m p).toNat = w 0 (42 + sOr (w 0) m p).toNat := if_neg (by omega)
              (try dsimp only [sRel, sDue, sWt, sLen, sSeq, sJb, sMc, sDu, sFa, sIx, sSu, sBn, sBf, sBl, sOn, sOr] at *)
              refine z_iload K dX4_repair_82 rfl ?_
              refine z_aload_n K dX4_repair_84 rfl rfl rfl ?_
              refine t_geta K fd_X4_9_0 rfl dX4_repair_85 ?_
              refine j_sipush K dX4_repair_88 (by decide +kernel) ?_
              refine z_iload K dX4_repair_91 rfl ?_
              refine j_iadd K dX4_repair_93 ?_
              refine t_ild K 0 203 rfl rfl rfl (by omega) (by omega) rfl dX4_repair_94 ?_
              simp only [w30]
              rw [on]
              refine j_icmp_ge (tgt := 164) K dX4_repair_95 rfl (by omega) (by omega) (fun c_95 => ?_) (fun c_95 => ?_)
              · exact absurd c_95 (by omega)
              · refine z_aload_n K dX4_repair_98 rfl rfl rfl ?_
                refine t_geta K fd_X4_29_0 rfl dX4_repair_99 ?_
                refine z_aload_n K dX4_repair_102 rfl rfl rfl ?_
                refine z_iload K dX4_repair_103 rfl ?_
                refine z_iload K dX4_repair_105 rfl ?_
                refine t_callp K (tw_ordered (by omega) (by omega)) cV_X4_142_X4 rfl rfl (by decide) (Nat.le_of_ble_eq_true rfl) (Nat.le_refl _) (Nat.le_refl _) dX4_repair_107 ?_
                simp only [w30]
                rw [eo]
                refine t_ild K 12 20 rfl rfl rfl (by omega) (by omega) rfl dX4_repair_110 ?_
                rw [show w3 W (sKp (w 0) st t m) g fx 12 = st from W12]
                refine z_iload_n K dX4_repair_111 rfl rfl ?_
                refine j_icmp_ge (tgt := 164) K dX4_repair_112 rfl (by omega) (by omega) (fun c_112 => ?_) (fun c_112 => ?_)
                · exact k164 g fx p p0 hp5 (by rw [← hk, ek, if_neg (by omega)]) hK (hmo (by omega)) _ ⟨rfl, rfl, rfl, rfl, rfl, trivial⟩
                · refine z_aload_n K dX4_repair_115 rfl rfl rfl ?_
                  refine z_iload K dX4_repair_116 rfl ?_
                  refine z_iload K dX4_repair_118 rfl ?_
                  refine t_callp K (tw_ordered (by omega) (by omega)) cV_X4_142_X4 rfl rfl (by decide) (Nat.le_of_ble_eq_true rfl) (Nat.le_refl _) (Nat.le_refl _) dX4_repair_120 ?_
                  simp only [w30]
                  rw [eo]
                  refine z_istore K dX4_repair_123 (by decide) rfl ?_
                  refine z_aload_n K dX4_repair_125 rfl rfl rfl ?_
                  refine t_geta K fd_X4_46_0 rfl dX4_repair_126 ?_
                  refine z_iload K dX4_repair_129 rfl ?_
                  refine z_aload_n K dX4_repair_131 rfl rfl rfl ?_
                  refine t_geta K fd_X4_29_0 rfl dX4_repair_132 ?_
                  refine z_iload K dX4_repair_135 rfl ?_
                  refine t_ild K 12 20 rfl rfl rfl (by omega) (by omega) rfl dX4_repair_137 ?_
                  rw [show w3 W (sKp (w 0) st t m) g fx 12 = st from W12]
                  refine t_ist K 19 20 rfl rfl rfl (by omega) (by omega) rfl dX4_repair_138 ?_
                  rw [w3_x]
                  refine z_aload_n K dX4_repair_139 rfl rfl rfl ?_
                  refine t_geta K fd_X4_43_0 rfl dX4_repair_140 ?_
                  refine z_aload_n K dX4_repair_143 rfl rfl rfl ?_
                  refine t_geta K fd_X4_9_0 rfl dX4_repair_144 ?_
                  refine j_bipush K dX4_repair_147 (by decide +kernel) ?_
                  refine z_iload K dX4_repair_149 rfl ?_
                  refine j_iadd K dX4_repair_151 ?_
                  refine t_ild K 0 203 rfl rfl rfl (by omega) (by omega) rfl dX4_repair_152 ?_
                  simp only [w30]
                  rw [ejb]
                  refine z_dup2 K dX4_repair_153 rfl rfl ?_
                  refine t_ild K 18 5 rfl rfl rfl (by omega) (by omega) rfl dX4_repair_154 ?_
                  simp only [w318]
                  refine j_iconst K dX4_repair_155 ?_
                  refine j_iadd K dX4_repair_156 ?_
                  refine t_ist K 18 5 rfl rfl rfl (by omega) (by omega) rfl dX4_repair_157 ?_
                  rw [w3_g]
                  refine j_iinc K dX4_repair_158 rfl (by decide) rfl ?_
                  refine z_goto (tgt := 82) K dX4_repair_161 rfl ?_
                  exact nx c_112 _ _ (hst c_112) _ ⟨rfl, rfl, rfl, rfl, rfl, trivial⟩
          refine z_iload K dX4_repair_73 rfl ?_
          refine j_iconst K dX4_repair_75 ?_
          refine j_icmp_ge (tgt := 183) K dX4_repair_76 rfl (by omega) (by omega) (fun c_76 => ?_) (fun c_76 => ?_)
          · exact absurd c_76 (by omega)
          · refine j_iconst K dX4_repair_79 ?_
            refine z_istore K dX4_repair_80 (by decide) rfl ?_
            exact l3 (sOn (w 0) m).toNat 0 (by omega) (by omega) rfl g fx hK _ ⟨rfl, rfl, rfl, rfl, rfl, trivial⟩
      have l1 : ∀ r n : Nat, n + r = 5 → ∀ env, zsub env [(0, .ref 1000), (1, .int (iI t)), (2, .int (iI u)), (4, .int (iI n))] → zW X (zPi fun x h' => ∃ v9 w', x = iI v9 ∧ h' = tH w' ∧ pubQ w (tcRep t u) (repQ w u t) v9 w') (tH (w3 W (w 0) (gClr (w 18) n) (w 19))) 0 0 50 env [] := by
        intro r
        induction r with
        | zero =>
          intro n hn env he
          obtain rfl : n = 5 := by omega
          refine zW.cut he ?_
          have nx := l2 4 0 (by omega) (gClr (w 18) 5) (w 19) (KI.init hA fun j j0 j1 => if_pos (by omega))
          rw [show sKp (w 0) st t 0 = w 0 from funext fun i => if_neg (by omega)] at nx
          refine z_iload K dX4_repair_50 rfl ?_
          refine j_iconst K dX4_repair_52 ?_
          refine j_icmp_ge (tgt := 70) K dX4_repair_53 rfl (by omega) (by omega) (fun c_53 => ?_) (fun c_53 => ?_)
          · refine j_iconst K dX4_repair_70 ?_
            refine z_istore K dX4_repair_71 (by decide) rfl ?_
            exact nx _ ⟨rfl, rfl, rfl, rfl, trivial⟩
          · exact absurd c_53 (by omega)
        | succ r ih =>
          intro n hn env he
          refine zW.cut he ?_
          refine z_iload K dX4_repair_50 rfl ?_
          refine j_iconst K dX4_repair_52 ?_
          refine j_icmp_ge (tgt := 70) K dX4_repair_53 rfl (by omega) (by omega) (fun c_53 => ?_) (fun c_53 => ?_)
          · exact absurd c_53 (by omega)
          · refine z_aload_n K dX4_repair_56 rfl rfl rfl ?_
            refine t_geta K fd_X4_43_0 rfl dX4_repair_57 ?_
            refine z_iload K dX4_repair_60 rfl ?_
            refine j_iconst K dX4_repair_62 ?_
            refine t_ist K 18 5 rfl rfl rfl (by omega) (by omega) rfl dX4_repair_63 ?_
            rw [w3_g, show (n : Int).toNat = n from rfl, gClr_s]
            refine j_iinc K dX4_repair_64 rfl (by decide) rfl ?_
            refine z_goto (tgt := 50) K dX4_repair_67 rfl ?_
            exact ih (n + 1) (by omega) _ ⟨rfl, rfl, rfl, rfl, trivial⟩
      intro env he
      have := l1 5 0 (by omega) env he
      rw [gClr_0, ← W0, ← W18, ← W19, w3_i] at this
      exact this
    refine t_puti K fd_X4_79_0 ⟨_, rfl, Or.inl rfl⟩ (by decide) rfl rfl dX4_repair_30 ?_
    refine z_aload_n K dX4_repair_33 rfl rfl rfl ?_
    refine t_geti K fd_X4_79_0 (by decide) rfl dX4_repair_34 ?_
    refine j_if_le (tgt := 42) K dX4_repair_37 rfl (by rw [tset_s]; omega) (fun c_37 => ?_) (fun c_37 => ?_)
    · rw [tset_s] at c_37
      obtain rfl : c = 0 := by omega
      refine z_aload_n K dX4_repair_42 rfl rfl rfl ?_
      refine t_calli K (tw_findTimes (w := tset w 3 0 0) (bb := 500) (by omega) (Or.inl hI.2.2.2.1) hA hO hI.ho (by show -1 ≤ w 14 0 ∧ w 14 0 ≤ 100; rw [hI.2.2.2.1]; omega) hI.2.2.2.2.1) cV_X4_181_X4 rfl rfl (by decide) (Nat.le_of_ble_eq_true rfl) (Nat.le_refl _) (Nat.le_refl _) dX4_repair_43 ?_
      rintro v1 w2 ⟨rd, st, hw2, hT, hv1⟩
      subst hw2
      refine z_istore_n K dX4_repair_46 rfl (by decide) rfl ?_
      refine j_iconst K dX4_repair_47 ?_
      refine z_istore K dX4_repair_48 (by decide) rfl ?_
      exact body rfl rd st hT _ ⟨rfl, rfl, rfl, rfl, trivial⟩
    · rw [tset_s] at c_37
      refine j_iconst K dX4_repair_40 ?_
      exact t_iret K (Nat.le_refl _) (Nat.le_refl _) (⟨fun q => by omega, fun q => by rw [hc]⟩) dX4_repair_41
  refine z_aload_n K dX4_repair_0 rfl rfl rfl ?_
  refine z_iload_n K dX4_repair_1 rfl rfl ?_
  refine j_i2l K (by omega) dX4_repair_2 ?_
  refine j_lconst0 K dX4_repair_3 ?_
  refine j_ldc2 K 999 q2168 (by decide +kernel) dX4_repair_4 ?_
  refine z_calls K (s_in (by omega) (by omega) (by omega)) cS_X4_82 rfl rfl (by decide) (Nat.le_of_ble_eq_true rfl) (Nat.le_refl _) (Nat.le_refl _) dX4_repair_7 ?_
  refine j_if_eq (tgt := 29) K dX4_repair_10 rfl (b01r _) (fun c_10 => ?_) (fun c_10 => ?_)
  · rw [bI_eq] at c_10
    refine j_iconst K dX4_repair_29 ?_
    exact tail _ (by unfold tcRep; split <;> omega) (by omega) (by omega) _ ⟨rfl, rfl, rfl, trivial⟩
  · rw [bI_ne] at c_10
    refine z_iload_n K dX4_repair_13 rfl rfl ?_
    refine j_i2l K (by omega) dX4_repair_14 ?_
    refine j_lconst0 K dX4_repair_15 ?_
    refine j_ldc2 K 3 q1941 (by decide +kernel) dX4_repair_16 ?_
    refine z_calls K (s_in (by omega) (by omega) (by omega)) cS_X4_82 rfl rfl (by decide) (Nat.le_of_ble_eq_true rfl) (Nat.le_refl _) (Nat.le_refl _) dX4_repair_19 ?_
    refine j_if_eq (tgt := 29) K dX4_repair_22 rfl (b01r _) (fun c_22 => ?_) (fun c_22 => ?_)
    · rw [bI_eq] at c_22
      refine j_iconst K dX4_repair_29 ?_
      exact tail _ (by unfold tcRep; split <;> omega) (by omega) (by omega) _ ⟨rfl, rfl, rfl, trivial⟩
    · rw [bI_ne] at c_22
      refine j_iconst K dX4_repair_25 ?_
      refine z_goto (tgt := 30) K dX4_repair_26 rfl ?_
      exact tail _ (by unfold tcRep; split <;> omega) (by omega) (by omega) _ ⟨rfl, rfl, rfl, trivial⟩

