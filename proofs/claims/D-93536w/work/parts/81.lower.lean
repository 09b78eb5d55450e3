/-! ===== the component: the lower bound ===== -/
def lbR (s : Nat → Int) : Nat → Int → Prop
  | 0, v => v = 0
  | m + 1, v => ∃ a c, lbR s m a ∧ bOn s m c ∧ v = max a c
def lbJ (s : Nat → Int) (b0 : Int) : Nat → Int
  | 0 => b0
  | j + 1 => if 0 < sLen s j then max (lbJ s b0 j) (sRel s j + rst s j 0 (sLen s j).toNat) else lbJ s b0 j
def lbQ (s : Nat → Int) (v : Int) : Prop := ∃ a, lbR s 4 a ∧ v = lbJ s a (s 0).toNat
theorem lbJ_r {s : Nat → Int} (hA : WfA s) {b0 : Int} (h0 : 0 ≤ b0 ∧ b0 ≤ 1000) : ∀ j : Nat, (j : Int) ≤ s 0 → 0 ≤ lbJ s b0 j ∧ lbJ s b0 j ≤ 1000
  | 0, _ => h0
  | j + 1, h => by
    have a := lbJ_r hA h0 j (by omega)
    have hj := hA.1.2 j (by omega) (by omega)
    have hr := rst_r hA (j := j) (i := 0) (by omega) (by omega) (sLen s j).toNat (by omega)
    unfold lbJ
    split <;> omega
section XLb
variable {b : Nat} {u : tW} {g : zH} {N : Nat}
theorem x2_lowerBound (hb : 1000 ≤ b) (hN : b + 72 ≤ N) (hTp : zTop g N) (hA : WfA (u 0)) (hO : WfO (u 0)) :
    zMet yX2_lowerBound (ws_ yX2_lowerBound cX2_lowerBound 3 (some .int)) 8 [.ref b] (sH b u g) (fun z h' => ∃ v g', z = .inl (some (.int (iI v))) ∧ h' = sH b u g' ∧ lbQ (u 0) v ∧ zExt N g g' ∧ zTop g' (N + 4)) 4 20 := by
  have h20 := hA.2.1.1
  have h05 := hA.1.1
  generalize hQ : (fun (z : zO) (h' : zH) => ∃ v g', z = .inl (some (.int (iI v))) ∧ h' = sH b u g' ∧ lbQ (u 0) v ∧ zExt N g g' ∧ zTop g' (N + 4)) = Q
  have hq : ∀ v g', lbQ (u 0) v → zExt N g g' → zTop g' (N + 4) → Q (.inl (some (.int (iI v)))) (sH b u g') := fun v g' a1 a3 a4 => by rw [← hQ]; exact ⟨v, g', rfl, rfl, a1, a3, a4⟩
  clear hQ
  refine zMet.of (by decide) (Nat.le_of_ble_eq_true rfl) fun X K => ?_
  have lj : ∀ (a : Int) (g' : zH), lbR (u 0) 4 a → (0 ≤ a ∧ a ≤ 1000) → zExt N g g' → zTop g' (N + 4) → ∀ (r j : Nat), (j : Int) + r = u 0 0 → ∀ env, zsub env [(0, .ref b), (1, .int (iI (lbJ (u 0) a j))), (2, .int (iI j))] → zW X Q (sH b u g') 4 20 27 env [] := by
    intro a g' hR har hx ht r
    induction r with
    | zero =>
      intro j hj env he
      refine zW.cut he ?_
      have hfin := hq (lbJ (u 0) a j) g' ⟨a, hR, by rw [show (u 0 0).toNat = j by omega]⟩ hx ht
      refine z_iload_n K dX2_lowerBound_27 rfl rfl ?_
      refine z_aload_n K dX2_lowerBound_28 rfl rfl rfl ?_
      refine z_get K fd_X2_12_2 (sH_shop) rfl dX2_lowerBound_29 ?_
      refine z_callV K (jl_size sH_jobs) cV_X2_55_J2 (sH_jobs) rfl rfl rfl (by omega) (by omega) (by omega) (Nat.le_of_ble_eq_true rfl) dX2_lowerBound_32 zrX (zrK ?_)
      refine j_icmp_ge (tgt := 99) K dX2_lowerBound_35 rfl (by omega) (by omega) (fun c_35 => ?_) (fun c_35 => ?_)
      · refine z_iload_n K dX2_lowerBound_99 rfl rfl ?_
        exact z_iret K (by omega) (by omega) (hfin) dX2_lowerBound_100
      · exact absurd c_35 (by omega)
    | succ r ih =>
      intro j hj env he
      refine zW.cut he ?_
      have hj' := hA.1.2 j (by omega) (by omega)
      have hr := rst_r hA (j := j) (i := 0) (by omega) (by omega) (sLen (u 0) j).toNat (by omega)
      have hl := lbJ_r hA har j (by omega)
      have hw := x5_work (b := b) (u := u) (g := g') (j := j) (x := 0) hA (by omega) (by omega)
      rw [show u 0 (17 + (j : Int)).toNat - 0 = u 0 (17 + (j : Int)).toNat by omega] at hw
      have nx := ih (j + 1) (by omega)
      unfold lbJ at nx
      clear ih
      (try dsimp only [sRel, sDue, sWt, sLen, sSeq, sJb, sMc, sDu, sFa, sIx, sSu, sBn, sBf, sBl, sOn, sOr] at *)
      refine z_iload_n K dX2_lowerBound_27 rfl rfl ?_
      refine z_aload_n K dX2_lowerBound_28 rfl rfl rfl ?_
      refine z_get K fd_X2_12_2 (sH_shop) rfl dX2_lowerBound_29 ?_
      refine z_callV K (jl_size sH_jobs) cV_X2_55_J2 (sH_jobs) rfl rfl rfl (by omega) (by omega) (by omega) (Nat.le_of_ble_eq_true rfl) dX2_lowerBound_32 zrX (zrK ?_)
      refine j_icmp_ge (tgt := 99) K dX2_lowerBound_35 rfl (by omega) (by omega) (fun c_35 => ?_) (fun c_35 => ?_)
      · exact absurd c_35 (by omega)
      · refine z_aload_n K dX2_lowerBound_38 rfl rfl rfl ?_
        refine z_get K fd_X2_12_2 (sH_shop) rfl dX2_lowerBound_39 ?_
        refine z_iload_n K dX2_lowerBound_42 rfl rfl ?_
        refine z_callV K (gt_jobs ⟨by omega, by omega⟩ (by omega)) cV_X2_59_J2 (sH_jobs) rfl rfl rfl (by omega) (by omega) (by omega) (Nat.le_of_ble_eq_true rfl) dX2_lowerBound_43 zrX (zrK ?_)
        refine z_castS K (sH_job ⟨by omega, by omega⟩ (by omega)) rfl q417 dX2_lowerBound_46 ?_
        refine z_get K fd_X2_111_4 (sH_job ⟨by omega, by omega⟩ (by omega)) rfl dX2_lowerBound_49 ?_
        refine z_callV K (jl_isEmpty (sH_jbL ⟨by omega, by omega⟩ (by omega)) (by omega)) cV_X2_199_J2 (sH_jbL ⟨by omega, by omega⟩ (by omega)) rfl rfl rfl (by omega) (by omega) (by omega) (Nat.le_of_ble_eq_true rfl) dX2_lowerBound_52 zrX (zrK ?_)
        refine j_if_ne (tgt := 93) K dX2_lowerBound_55 rfl (b01r _) (fun c_55 => ?_) (fun c_55 => ?_)
        · rw [if_neg (by have := bI_ne.mp c_55; omega)] at nx
          refine j_iinc K dX2_lowerBound_93 rfl (by decide) rfl ?_
          refine z_goto (tgt := 27) K dX2_lowerBound_96 rfl ?_
          exact nx _ ⟨rfl, rfl, rfl, trivial⟩
        · rw [if_pos (by have := bI_eq.mp c_55; omega)] at nx
          refine z_iload_n K dX2_lowerBound_58 rfl rfl ?_
          refine z_aload_n K dX2_lowerBound_59 rfl rfl rfl ?_
          refine z_get K fd_X2_12_2 (sH_shop) rfl dX2_lowerBound_60 ?_
          refine z_iload_n K dX2_lowerBound_63 rfl rfl ?_
          refine z_callV K (gt_jobs ⟨by omega, by omega⟩ (by omega)) cV_X2_59_J2 (sH_jobs) rfl rfl rfl (by omega) (by omega) (by omega) (Nat.le_of_ble_eq_true rfl) dX2_lowerBound_64 zrX (zrK ?_)
          refine z_castS K (sH_job ⟨by omega, by omega⟩ (by omega)) rfl q417 dX2_lowerBound_67 ?_
          refine z_callV K (x5_release ⟨by omega, by omega⟩ (by omega)) cV_X2_65_X5 (sH_job ⟨by omega, by omega⟩ (by omega)) rfl rfl rfl (by omega) (by omega) (by omega) (Nat.le_of_ble_eq_true rfl) dX2_lowerBound_70 zrX (zrK ?_)
          refine z_aload_n K dX2_lowerBound_73 rfl rfl rfl ?_
          refine z_get K fd_X2_12_2 (sH_shop) rfl dX2_lowerBound_74 ?_
          refine z_iload_n K dX2_lowerBound_77 rfl rfl ?_
          refine z_callV K (gt_jobs ⟨by omega, by omega⟩ (by omega)) cV_X2_59_J2 (sH_jobs) rfl rfl rfl (by omega) (by omega) (by omega) (Nat.le_of_ble_eq_true rfl) dX2_lowerBound_78 zrX (zrK ?_)
          refine z_castS K (sH_job ⟨by omega, by omega⟩ (by omega)) rfl q417 dX2_lowerBound_81 ?_
          refine j_iconst K dX2_lowerBound_84 ?_
          refine z_callV K (hw) cV_X2_222_X5 (sH_job ⟨by omega, by omega⟩ (by omega)) rfl rfl rfl (by omega) (by omega) (by omega) (Nat.le_of_ble_eq_true rfl) dX2_lowerBound_85 zrX (zrK ?_)
          refine j_iadd K dX2_lowerBound_88 ?_
          refine z_callS K ((s_max (by omega) (by omega)).r) cS_X2_147 rfl rfl (by omega) (by omega) (by omega) (Nat.le_of_ble_eq_true rfl) dX2_lowerBound_89 zrX (zrK ?_)
          refine z_istore_n K dX2_lowerBound_92 rfl (by decide) rfl ?_
          refine j_iinc K dX2_lowerBound_93 rfl (by decide) rfl ?_
          refine z_goto (tgt := 27) K dX2_lowerBound_96 rfl ?_
          exact nx _ ⟨rfl, rfl, rfl, trivial⟩
  have lm : ∀ (r m : Nat), m + r = 4 → ∀ (a : Int) (g' : zH), lbR (u 0) m a → (0 ≤ a ∧ a ≤ 600) → zExt N g g' → zTop g' (N + m) → ∀ env, zsub env [(0, .ref b), (1, .int (iI a)), (2, .int (iI m))] → zW X Q (sH b u g') m (5 * m) 4 env [] := by
    intro r
    induction r with
    | zero =>
      intro m hm a g' hR har hx ht env he
      obtain rfl : m = 4 := by omega
      refine zW.cut he ?_
      have go := lj a g' hR (by omega) hx ht (u 0 0).toNat 0 (by omega)
      have go : ∀ env, zsub env [(0, .ref b), (1, .int (iI a)), (2, .int (iI 0))] → zW X Q (sH b u g') 4 20 27 env [] := go
      clear lj
      refine z_iload_n K dX2_lowerBound_4 rfl rfl ?_
      refine j_iconst K dX2_lowerBound_5 ?_
      refine j_icmp_ge (tgt := 25) K dX2_lowerBound_6 rfl (by omega) (by omega) (fun c_6 => ?_) (fun c_6 => ?_)
      · refine j_iconst K dX2_lowerBound_25 ?_
        refine z_istore_n K dX2_lowerBound_26 rfl (by decide) rfl ?_
        exact go _ ⟨rfl, rfl, rfl, trivial⟩
      · exact absurd c_6 (by omega)
    | succ r ih =>
      intro m hm a g' hR har hx ht env he
      refine zW.cut he ?_
      have hn5 := (hO m (by omega) (by omega)).1
      have hbd := x2_bound (b := b) (u := u) (g := g') (N := N + m) (m := m) (n := (sOn (u 0) m).toNat) hb (by omega) ht (by omega) hA hO (by omega)
      have nx : ∀ v g2, bOn (u 0) m v → (0 ≤ v ∧ v ≤ 600) → zExt (N + m) g' g2 → zTop g2 (N + m + 1) → ∀ env, zsub env [(0, .ref b), (1, .int (iI (max a v))), (2, .int (iI ((m : Int) + 1)))] → zW X Q (sH b u g2) (m + 1) (5 * (m + 1)) 4 env [] := fun v g2 b1 b2 b3 b4 => ih (m + 1) (by omega) (max a v) g2 ⟨a, v, hR, b1, rfl⟩ (by omega) (hx.tr b3 (by omega)) b4
      clear ih lj
      refine z_iload_n K dX2_lowerBound_4 rfl rfl ?_
      refine j_iconst K dX2_lowerBound_5 ?_
      refine j_icmp_ge (tgt := 25) K dX2_lowerBound_6 rfl (by omega) (by omega) (fun c_6 => ?_) (fun c_6 => ?_)
      · exact absurd c_6 (by omega)
      · refine z_iload_n K dX2_lowerBound_9 rfl rfl ?_
        refine z_aload_n K dX2_lowerBound_10 rfl rfl rfl ?_
        refine z_iload_n K dX2_lowerBound_11 rfl rfl ?_
        refine z_callV K (hbd) cV_X2_235_X2 (sH_shop) rfl rfl rfl (by omega) (by omega) (by omega) (Nat.le_of_ble_eq_true rfl) dX2_lowerBound_12 (fun _ _ ⟨_, _, e, _⟩ => nomatch e) ?_
        rintro _ _ ⟨v, g2, ez, rfl, hv, hvr, hx2, ht2⟩
        cases ez
        refine z_callS K ((s_max (by omega) (by omega)).r) cS_X2_147 rfl rfl (by omega) (by omega) (by omega) (Nat.le_of_ble_eq_true rfl) dX2_lowerBound_15 zrX (zrK ?_)
        refine z_istore_n K dX2_lowerBound_18 rfl (by decide) rfl ?_
        refine j_iinc K dX2_lowerBound_19 rfl (by decide) rfl ?_
        refine z_goto (tgt := 4) K dX2_lowerBound_22 rfl ?_
        exact zW.widen (by omega) (by omega) (nx v g2 hv hvr hx2 ht2 _ ⟨rfl, rfl, rfl, trivial⟩)
  have go := lm 4 0 (by omega) 0 g rfl (by omega) zExt.rf hTp
  have go : ∀ env, zsub env [(0, .ref b), (1, .int (iI 0)), (2, .int (iI 0))] → zW X Q (sH b u g) 0 0 4 env [] := go
  clear lm lj
  refine j_iconst K dX2_lowerBound_0 ?_
  refine z_istore_n K dX2_lowerBound_1 rfl (by decide) rfl ?_
  refine j_iconst K dX2_lowerBound_2 ?_
  refine z_istore_n K dX2_lowerBound_3 rfl (by decide) rfl ?_
  exact go _ ⟨rfl, rfl, rfl, trivial⟩
end XLb

