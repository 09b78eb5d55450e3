/-! ===== the reference: boundOf ===== -/
def wX (w : tW) (a b c : Nat → Int) : tW := fun f => if f = 27 then a else if f = 28 then b else if f = 29 then c else w f
theorem wX27 {w : tW} {a b c : Nat → Int} : wX w a b c 27 = a := rfl
theorem wX28 {w : tW} {a b c : Nat → Int} : wX w a b c 28 = b := rfl
theorem wX29 {w : tW} {a b c : Nat → Int} : wX w a b c 29 = c := rfl
theorem wX0 {w : tW} {a b c : Nat → Int} : wX w a b c 0 = w 0 := rfl
theorem wX_f {w : tW} {a b c : Nat → Int} {f : Nat} (h0 : f ≠ 27) (h1 : f ≠ 28) (h2 : f ≠ 29) : wX w a b c f = w f := by simp [wX, h0, h1, h2]
theorem wX_i {w : tW} : wX w (w 27) (w 28) (w 29) = w := by
  funext f
  unfold wX
  split
  · next h => rw [h]
  · split
    · next h => rw [h]
    · split
      · next h => rw [h]
      · rfl
theorem wX_a {w : tW} {a b c : Nat → Int} {i : Nat} {v : Int} : tset (wX w a b c) 27 i v = wX w (sup a i v) b c := by
  funext f j
  unfold tset wX sup
  by_cases q : f = 27
  · subst q; by_cases d : j = i <;> simp [d]
  · simp [q]
theorem wX_b {w : tW} {a b c : Nat → Int} {i : Nat} {v : Int} : tset (wX w a b c) 28 i v = wX w a (sup b i v) c := by
  funext f j
  unfold tset wX sup
  by_cases q : f = 28
  · subst q; by_cases d : j = i <;> simp [d]
  · simp [q]
theorem wX_c {w : tW} {a b c : Nat → Int} {i : Nat} {v : Int} : tset (wX w a b c) 29 i v = wX w a b (sup c i v) := by
  funext f j
  unfold tset wX sup
  by_cases q : f = 29
  · subst q; by_cases d : j = i <;> simp [d]
  · simp [q]
/-- heads, tails, lefts of the first n operations of m's order -/
def bPr (s : Nat → Int) (m : Int) (n : Int) (a b c : Nat → Int) : Prop := ∀ p : Int, 0 ≤ p → p < n → a (sOr s m p).toNat = hdO s (sOr s m p) ∧ b (sOr s m p).toNat = tlO s (sOr s m p) ∧ c (sOr s m p).toNat = sDu s (sOr s m p)
theorem tlO_r {s : Nat → Int} (hA : WfA s) {k : Int} (hk : 0 ≤ k ∧ k < s 1) : -30 ≤ tlO s k ∧ tlO s k ≤ 120 := by
  have a := rOf_r hA hk
  have b := (hA.2.1.2 k hk.1 hk.2).2.2.1
  unfold tlO
  omega
/-- the phase that lays heads, tails and lefts -/
theorem tw_bPrep {X : zX} {Q : zO → zH → Prop} (K : zK yX4_boundOf cX4_boundOf 8 (some .int) [] 3 0 0 X) {w : tW} {m : Int} (hA : WfA (w 0)) (hO : WfO (w 0)) (hm : 0 ≤ m ∧ m ≤ 3) (kont : ∀ a b c, bPr (w 0) m (sOn (w 0) m) a b c → ∀ env, zsub env [(0, .ref 1000), (1, .int (iI m)), (2, .int (iI (sOn (w 0) m)))] → zW X Q (tH (wX w a b c)) 0 0 154 env []) : ∀ (r : Nat) (i : Int), 0 ≤ i → i + r = sOn (w 0) m → ∀ a b c, bPr (w 0) m i a b c → ∀ env, zsub env [(0, .ref 1000), (1, .int (iI m)), (2, .int (iI i)), (3, .int (iI i))] → zW X Q (tH (wX w a b c)) 0 0 4 env [] := by
  have h20 := hA.2.1.1
  have h05 := hA.1.1
  obtain ⟨o1, o2, o3, -⟩ := hO m hm.1 hm.2
  intro r
  induction r with
  | zero =>
    intro i i0 hi a b c hP env he
    refine zW.cut he ?_
    obtain rfl : i = sOn (w 0) m := by omega
    have kk := kont a b c hP
    (try dsimp only [sRel, sDue, sWt, sLen, sSeq, sJb, sMc, sDu, sFa, sIx, sSu, sBn, sBf, sBl, sOn, sOr] at *)
    refine z_iload_n K dX4_boundOf_4 rfl rfl ?_
    refine z_aload_n K dX4_boundOf_5 rfl rfl rfl ?_
    refine t_geta K fd_X4_9_0 rfl dX4_boundOf_6 ?_
    refine j_sipush K dX4_boundOf_9 (by decide +kernel) ?_
    refine z_iload_n K dX4_boundOf_12 rfl rfl ?_
    refine j_iadd K dX4_boundOf_13 ?_
    refine t_ild K 0 203 rfl rfl rfl (by omega) (by omega) rfl dX4_boundOf_14 ?_
    rw [wX0]
    refine j_icmp_ge (tgt := 154) K dX4_boundOf_15 rfl (by omega) (by omega) (fun c_15 => ?_) (fun c_15 => ?_)
    · exact kk _ ⟨rfl, rfl, rfl, trivial⟩
    · exact absurd c_15 (by omega)
  | succ r ih =>
    intro i i0 hi a b c hP env he
    refine zW.cut he ?_
    obtain ⟨q1, q2⟩ := o2 i i0 (by omega)
    obtain ⟨a1, a2, a3, a4, a5, a6⟩ := hA.2.1.2 _ q1.1 q1.2
    have hln := (hA.1.2 _ a1.1 a1.2).2.2.2
    have ihn := ih (i + 1) (by omega) (by omega)
    clear ih kont
    have hin : i < w 0 (179 + m).toNat := by (try dsimp only [sRel, sDue, sWt, sLen, sSeq, sJb, sMc, sDu, sFa, sIx, sSu, sBn, sBf, sBl, sOn, sOr] at *); omega
    have hon : w 0 (179 + m).toNat ≤ 5 := by (try dsimp only [sRel, sDue, sWt, sLen, sSeq, sJb, sMc, sDu, sFa, sIx, sSu, sBn, sBf, sBl, sOn, sOr] at *); omega
    generalize ho : sOr (w 0) m i = o at *
    have k128 : ∀ a b c, bPr (w 0) m i a b c → a o.toNat = hdO (w 0) o → b o.toNat = tlO (w 0) o → ∀ env, zsub env [(0, .ref 1000), (1, .int (iI m)), (2, .int (iI i)), (3, .int (iI i)), (4, .int (iI o))] → zW X Q (tH (wX w a b c)) 0 0 128 env [] := fun a b c hP ea eb env he => by
      refine zW.cut he ?_
      have nx := ihn a b (sup c o.toNat (sDu (w 0) o)) (fun p p0 p1 => by
        rcases (by omega : p < i ∨ p = i) with z | z
        · obtain ⟨x1, x2, x3⟩ := hP p p0 z
          have y := (o2 p p0 (by omega)).1
          have ne : sOr (w 0) m p ≠ o := fun e => by have := o3 p i p0 (by omega) i0 (by omega) (by rw [e, ho]); omega
          exact ⟨x1, x2, by rw [sup_n (by omega)]; exact x3⟩
        · rw [z, ho]
          exact ⟨ea, eb, sup_s⟩)
      (try dsimp only [sRel, sDue, sWt, sLen, sSeq, sJb, sMc, sDu, sFa, sIx, sSu, sBn, sBf, sBl, sOn, sOr] at *)
      refine z_aload_n K dX4_boundOf_128 rfl rfl rfl ?_
      refine t_geta K fd_X4_73_0 rfl dX4_boundOf_129 ?_
      refine z_iload K dX4_boundOf_132 rfl ?_
      refine z_aload_n K dX4_boundOf_134 rfl rfl rfl ?_
      refine t_geta K fd_X4_9_0 rfl dX4_boundOf_135 ?_
      refine j_bipush K dX4_boundOf_138 (by decide +kernel) ?_
      refine z_iload K dX4_boundOf_140 rfl ?_
      refine j_iadd K dX4_boundOf_142 ?_
      refine t_ild K 0 203 rfl rfl rfl (by omega) (by omega) rfl dX4_boundOf_143 ?_
      rw [wX0]
      refine t_ist K 29 20 rfl rfl rfl (by omega) (by omega) rfl dX4_boundOf_144 ?_
      rw [wX_c]
      refine j_iinc K dX4_boundOf_145 rfl (by decide) rfl ?_
      refine j_iinc K dX4_boundOf_148 rfl (by decide) rfl ?_
      refine z_goto (tgt := 4) K dX4_boundOf_151 rfl ?_
      exact nx _ ⟨rfl, rfl, rfl, rfl, trivial⟩
    have l81 : ∀ b c, bPr (w 0) m i a b c → b o.toNat = tlO (w 0) o → ∀ (x y : Nat), y + x = (sIx (w 0) o).toNat → ∀ env, zsub env [(0, .ref 1000), (1, .int (iI m)), (2, .int (iI i)), (3, .int (iI i)), (4, .int (iI o)), (5, .int (iI (sJb (w 0) o))), (6, .int (iI y))] → zW X Q (tH (wX w (sup a o.toNat (hdN (w 0) (sJb (w 0) o) y)) b c)) 0 0 81 env [] := by
      intro b c hP eb x
      have hP2 : ∀ v, bPr (w 0) m i (sup a o.toNat v) b c := fun v p p0 p1 => by
        obtain ⟨x1, x2, x3⟩ := hP p p0 p1
        have y := (o2 p p0 (by omega)).1
        have ne : sOr (w 0) m p ≠ o := fun e => by have := o3 p i p0 (by omega) i0 (by omega) (by rw [e, ho]); omega
        exact ⟨by rw [sup_n (by omega)]; exact x1, x2, x3⟩
      induction x with
      | zero =>
        intro y hy env he
        refine zW.cut he ?_
        have kk := k128 _ b c (hP2 (hdN (w 0) (sJb (w 0) o) y)) (by rw [sup_s]; unfold hdO; rw [show y = (sIx (w 0) o).toNat by omega]) eb
        (try dsimp only [sRel, sDue, sWt, sLen, sSeq, sJb, sMc, sDu, sFa, sIx, sSu, sBn, sBf, sBl, sOn, sOr] at *)
        refine z_iload K dX4_boundOf_81 rfl ?_
        refine z_aload_n K dX4_boundOf_83 rfl rfl rfl ?_
        refine t_geta K fd_X4_9_0 rfl dX4_boundOf_84 ?_
        refine j_bipush K dX4_boundOf_87 (by decide +kernel) ?_
        refine z_iload K dX4_boundOf_89 rfl ?_
        refine j_iadd K dX4_boundOf_91 ?_
        refine t_ild K 0 203 rfl rfl rfl (by omega) (by omega) rfl dX4_boundOf_92 ?_
        rw [wX0]
        refine j_icmp_ge (tgt := 128) K dX4_boundOf_93 rfl (by omega) (by omega) (fun c_93 => ?_) (fun c_93 => ?_)
        · exact kk _ ⟨rfl, rfl, rfl, rfl, rfl, trivial⟩
        · exact absurd c_93 (by omega)
      | succ x ihx =>
        intro y hy env he
        refine zW.cut he ?_
        have nx := ihx (y + 1) (by omega)
        have eh : hdN (w 0) (sJb (w 0) o) (y + 1) = hdN (w 0) (sJb (w 0) o) y + sDu (w 0) (sSeq (w 0) (sJb (w 0) o) y) := rfl
        rw [eh] at nx
        have hq := (hA.2.2.1 (sJb (w 0) o) y a1.1 a1.2 (by omega) (by omega)).1
        have nx2 : zW X Q (tH (wX w (sup (sup a o.toNat (hdN (w 0) (sJb (w 0) o) y)) o.toNat (hdN (w 0) (sJb (w 0) o) y + sDu (w 0) (sSeq (w 0) (sJb (w 0) o) y))) b c)) 0 0 81 [(0, .ref 1000), (1, .int (iI m)), (2, .int (iI i)), (3, .int (iI i)), (4, .int (iI o)), (5, .int (iI (sJb (w 0) o))), (6, .int (iI ((y : Int) + 1)))] [] := by
          rw [sup_2]
          exact nx _ ⟨rfl, rfl, rfl, rfl, rfl, rfl, rfl, trivial⟩
        clear nx ihx k128 ihn
        (try dsimp only [sRel, sDue, sWt, sLen, sSeq, sJb, sMc, sDu, sFa, sIx, sSu, sBn, sBf, sBl, sOn, sOr] at *)
        refine z_iload K dX4_boundOf_81 rfl ?_
        refine z_aload_n K dX4_boundOf_83 rfl rfl rfl ?_
        refine t_geta K fd_X4_9_0 rfl dX4_boundOf_84 ?_
        refine j_bipush K dX4_boundOf_87 (by decide +kernel) ?_
        refine z_iload K dX4_boundOf_89 rfl ?_
        refine j_iadd K dX4_boundOf_91 ?_
        refine t_ild K 0 203 rfl rfl rfl (by omega) (by omega) rfl dX4_boundOf_92 ?_
        rw [wX0]
        refine j_icmp_ge (tgt := 128) K dX4_boundOf_93 rfl (by omega) (by omega) (fun c_93 => ?_) (fun c_93 => ?_)
        · exact absurd c_93 (by omega)
        · refine z_aload_n K dX4_boundOf_96 rfl rfl rfl ?_
          refine t_geta K fd_X4_67_0 rfl dX4_boundOf_97 ?_
          refine z_iload K dX4_boundOf_100 rfl ?_
          refine z_dup2 K dX4_boundOf_102 rfl rfl ?_
          refine t_ild K 27 20 rfl rfl rfl (by omega) (by omega) rfl dX4_boundOf_103 ?_
          rw [wX27, sup_s]
          refine z_aload_n K dX4_boundOf_104 rfl rfl rfl ?_
          refine t_geta K fd_X4_9_0 rfl dX4_boundOf_105 ?_
          refine j_bipush K dX4_boundOf_108 (by decide +kernel) ?_
          refine z_aload_n K dX4_boundOf_110 rfl rfl rfl ?_
          refine z_iload K dX4_boundOf_111 rfl ?_
          refine z_iload K dX4_boundOf_113 rfl ?_
          refine t_callp K (tw_sequence (by omega) (by omega)) cV_X4_110_X4 rfl rfl (by decide) (Nat.le_of_ble_eq_true rfl) (Nat.le_refl _) (Nat.le_refl _) dX4_boundOf_115 ?_
          rw [wX0]
          refine j_iadd K dX4_boundOf_118 ?_
          refine t_ild K 0 203 rfl rfl rfl (by omega) (by omega) rfl dX4_boundOf_119 ?_
          rw [wX0]
          refine j_iadd K dX4_boundOf_120 ?_
          refine t_ist K 27 20 rfl rfl rfl (by omega) (by omega) rfl dX4_boundOf_121 ?_
          rw [wX_a]
          refine j_iinc K dX4_boundOf_122 rfl (by decide) rfl ?_
          refine z_goto (tgt := 81) K dX4_boundOf_125 rfl ?_
          refine zW.cut ?_ nx2
          exact ⟨rfl, rfl, rfl, rfl, rfl, rfl, rfl, trivial⟩
    have go : ∀ env, zsub env [(0, .ref 1000), (1, .int (iI m)), (2, .int (iI i)), (3, .int (iI i)), (4, .int (iI o)), (5, .int (iI (sJb (w 0) o))), (6, .int (iI 0))] → zW X Q (tH (wX w (sup a o.toNat (sRel (w 0) (sJb (w 0) o))) (sup b o.toNat (rOf (w 0) o - sDu (w 0) o)) c)) 0 0 81 env [] := l81 (sup b o.toNat (rOf (w 0) o - sDu (w 0) o)) c (fun p p0 p1 => by
        obtain ⟨x1, x2, x3⟩ := hP p p0 p1
        have y := (o2 p p0 (by omega)).1
        have ne : sOr (w 0) m p ≠ o := fun e => by have := o3 p i p0 (by omega) i0 (by omega) (by rw [e, ho]); omega
        exact ⟨x1, by rw [sup_n (by omega)]; exact x2, x3⟩) sup_s (sIx (w 0) o).toNat 0 (by omega)
    clear l81 k128 ihn
    (try dsimp only [sRel, sDue, sWt, sLen, sSeq, sJb, sMc, sDu, sFa, sIx, sSu, sBn, sBf, sBl, sOn, sOr] at *)
    refine z_iload_n K dX4_boundOf_4 rfl rfl ?_
    refine z_aload_n K dX4_boundOf_5 rfl rfl rfl ?_
    refine t_geta K fd_X4_9_0 rfl dX4_boundOf_6 ?_
    refine j_sipush K dX4_boundOf_9 (by decide +kernel) ?_
    refine z_iload_n K dX4_boundOf_12 rfl rfl ?_
    refine j_iadd K dX4_boundOf_13 ?_
    refine t_ild K 0 203 rfl rfl rfl (by omega) (by omega) rfl dX4_boundOf_14 ?_
    rw [wX0]
    refine j_icmp_ge (tgt := 154) K dX4_boundOf_15 rfl (by omega) (by omega) (fun c_15 => ?_) (fun c_15 => ?_)
    · exact absurd c_15 (by omega)
    · refine z_aload_n K dX4_boundOf_18 rfl rfl rfl ?_
      refine z_iload_n K dX4_boundOf_19 rfl rfl ?_
      refine z_iload_n K dX4_boundOf_20 rfl rfl ?_
      refine t_callp K (tw_ordered (by omega) (by omega)) cV_X4_142_X4 rfl rfl (by decide) (Nat.le_of_ble_eq_true rfl) (Nat.le_refl _) (Nat.le_refl _) dX4_boundOf_21 ?_
      rw [wX0, ho]
      refine z_istore K dX4_boundOf_24 (by decide) rfl ?_
      refine z_aload_n K dX4_boundOf_26 rfl rfl rfl ?_
      refine t_geta K fd_X4_9_0 rfl dX4_boundOf_27 ?_
      refine j_bipush K dX4_boundOf_30 (by decide +kernel) ?_
      refine z_iload K dX4_boundOf_32 rfl ?_
      refine j_iadd K dX4_boundOf_34 ?_
      refine t_ild K 0 203 rfl rfl rfl (by omega) (by omega) rfl dX4_boundOf_35 ?_
      rw [wX0]
      refine z_istore K dX4_boundOf_36 (by decide) rfl ?_
      refine z_aload_n K dX4_boundOf_38 rfl rfl rfl ?_
      refine t_geta K fd_X4_67_0 rfl dX4_boundOf_39 ?_
      refine z_iload K dX4_boundOf_42 rfl ?_
      refine z_aload_n K dX4_boundOf_44 rfl rfl rfl ?_
      refine t_geta K fd_X4_9_0 rfl dX4_boundOf_45 ?_
      refine j_iconst K dX4_boundOf_48 ?_
      refine z_iload K dX4_boundOf_49 rfl ?_
      refine j_iadd K dX4_boundOf_51 ?_
      refine t_ild K 0 203 rfl rfl rfl (by omega) (by omega) rfl dX4_boundOf_52 ?_
      rw [wX0]
      refine t_ist K 27 20 rfl rfl rfl (by omega) (by omega) rfl dX4_boundOf_53 ?_
      rw [wX_a]
      refine z_aload_n K dX4_boundOf_54 rfl rfl rfl ?_
      refine t_geta K fd_X4_70_0 rfl dX4_boundOf_55 ?_
      refine z_iload K dX4_boundOf_58 rfl ?_
      refine z_aload_n K dX4_boundOf_60 rfl rfl rfl ?_
      refine z_iload K dX4_boundOf_61 rfl ?_
      refine t_callp K (tw_restOf (w := wX w (sup a o.toNat (w 0 (2 + w 0 (42 + o).toNat).toNat)) b c) hA (by rw [wX0]; omega)) cV_X4_232_X4 rfl rfl (by decide) (Nat.le_of_ble_eq_true rfl) (Nat.le_refl _) (Nat.le_refl _) dX4_boundOf_63 ?_
      rw [wX0]
      refine z_aload_n K dX4_boundOf_66 rfl rfl rfl ?_
      refine t_geta K fd_X4_9_0 rfl dX4_boundOf_67 ?_
      refine j_bipush K dX4_boundOf_70 (by decide +kernel) ?_
      refine z_iload K dX4_boundOf_72 rfl ?_
      refine j_iadd K dX4_boundOf_74 ?_
      refine t_ild K 0 203 rfl rfl rfl (by omega) (by omega) rfl dX4_boundOf_75 ?_
      rw [wX0]
      refine j_isub K dX4_boundOf_76 ?_
      refine t_ist K 28 20 rfl rfl rfl (by omega) (by omega) rfl dX4_boundOf_77 ?_
      rw [wX_b]
      refine j_iconst K dX4_boundOf_78 ?_
      refine z_istore K dX4_boundOf_79 (by decide) rfl ?_
      exact go _ ⟨rfl, rfl, rfl, rfl, rfl, rfl, rfl, trivial⟩
/-- only the numbers of the machine's own operations count -/
theorem bR_congr {s : Nat → Int} {m : Int} : ∀ (n : Nat) (t : Int) (lf lf' : Nat → Int) (u b v : Int), (∀ k : Int, 0 ≤ k → k < s 1 → sMc s k = m → lf k.toNat = lf' k.toNat) → bR s m n t lf u b v → bR s m n t lf' u b v
  | 0, _, _, _, _, _, _, _, h => h
  | n + 1, t, lf, lf', u, b, v, e, h => by
    have hcd : ∀ k, bCd s lf m t k ↔ bCd s lf' m t k := fun k => by
      constructor
      · rintro ⟨h1, h2, h3, h4⟩
        exact ⟨h1, h2, by rw [← e k h1.1 h1.2 h2]; exact h3, h4⟩
      · rintro ⟨h1, h2, h3, h4⟩
        exact ⟨h1, h2, by rw [e k h1.1 h1.2 h2]; exact h3, h4⟩
    rcases h with h | ⟨hu, h⟩
    · exact Or.inl h
    · refine Or.inr ⟨hu, ?_⟩
      rcases h with ⟨h1, h2⟩ | ⟨k, hk, h⟩
      · exact Or.inl ⟨fun k hk => h1 k ((hcd k).mpr hk), bR_congr n _ lf lf' _ _ _ e h2⟩
      · have ek := e k hk.1.1.1 hk.1.1.2 hk.1.2.1
        have e2 : ∀ l : Int, 0 ≤ l → l < s 1 → sMc s l = m → sup lf k.toNat (lf k.toNat - 1) l.toNat = sup lf' k.toNat (lf' k.toNat - 1) l.toNat := fun l l0 l1 l2 => by
          by_cases q : l.toNat = k.toNat
          · rw [q, sup_s, sup_s, ek]
          · rw [sup_n q, sup_n q]; exact e l l0 l1 l2
        refine Or.inr ⟨k, ⟨(hcd k).mp hk.1, fun l hl => hk.2 l ((hcd l).mpr hl)⟩, ?_⟩
        rw [← ek]
        rw [← ek] at e2
        rcases h with ⟨h1, h2⟩ | ⟨h1, h2⟩
        · exact Or.inl ⟨h1, bR_congr n _ _ _ _ _ _ e2 h2⟩
        · exact Or.inr ⟨h1, bR_congr n _ _ _ _ _ _ e2 h2⟩
/-- the best among the operations below n -/
def bJn (s lf : Nat → Int) (m t : Int) (n : Int) (c : Int) : Prop := (c = -1 ∧ ∀ l : Int, l < n → ¬ bCd s lf m t l) ∨ (bCd s lf m t c ∧ c < n ∧ ∀ l : Int, l < n → bCd s lf m t l → tlO s l < tlO s c ∨ (tlO s l = tlO s c ∧ c ≤ l))
theorem bJn.no {s lf : Nat → Int} {m t n c : Int} (h : bJn s lf m t n c) (hn : ¬ bCd s lf m t n) : bJn s lf m t (n + 1) c := by
  have q : ∀ l : Int, l < n + 1 → bCd s lf m t l → l < n := fun l h1 h2 => by
    by_cases e : l = n
    · rw [e] at h2; exact absurd h2 hn
    · omega
  rcases h with ⟨h1, h2⟩ | ⟨h1, h2, h3⟩
  · exact Or.inl ⟨h1, fun l hl hc => h2 l (q l hl hc) hc⟩
  · exact Or.inr ⟨h1, by omega, fun l hl hc => h3 l (q l hl hc) hc⟩
theorem bJn.old {s lf : Nat → Int} {m t n c : Int} (h : bJn s lf m t n c) (hc : c ≠ -1) (hn : tlO s n ≤ tlO s c) : bJn s lf m t (n + 1) c := by
  rcases h with ⟨h1, -⟩ | ⟨h1, h2, h3⟩
  · exact absurd h1 hc
  · refine Or.inr ⟨h1, by omega, fun l hl hl2 => ?_⟩
    by_cases e : l = n
    · subst e; omega
    · exact h3 l (by omega) hl2
theorem bJn.new {s lf : Nat → Int} {m t n c : Int} (h : bJn s lf m t n c) (hn : bCd s lf m t n) (hc : c = -1 ∨ tlO s c < tlO s n) (h0 : c = -1 ∨ 0 ≤ c) : bJn s lf m t (n + 1) n := by
  refine Or.inr ⟨hn, by omega, fun l hl hl2 => ?_⟩
  by_cases e : l = n
  · subst e; omega
  · rcases h with ⟨-, h2⟩ | ⟨h1, h2, h3⟩
    · exact absurd hl2 (h2 l (by omega))
    · have := h3 l (by omega) hl2
      have := h1.1.1
      omega
theorem bJn.bIn {s lf : Nat → Int} (hO : WfO s) {m t c : Int} {n : Nat} (hm : 0 ≤ m ∧ m ≤ 3) (hn : sOn s m = n) (h : bJn s lf m t (s 1) c) : (c = -1 ∧ bIn s lf m t n (-1)) ∨ ∃ p : Nat, p < n ∧ sOr s m p = c ∧ bIn s lf m t n p := by
  obtain ⟨o1, o2, o3, o4⟩ := hO m hm.1 hm.2
  rcases h with ⟨h1, h2⟩ | ⟨h1, h2, h3⟩
  · exact Or.inl ⟨h1, Or.inl ⟨rfl, fun q hq hc => h2 _ hc.1.2 hc⟩⟩
  · obtain ⟨p, p0, p1, pe⟩ := o4 c h1.1.1 h1.1.2 h1.2.1
    have e : sOr s m (p.toNat : Nat) = c := by rw [show ((p.toNat : Nat) : Int) = p by omega]; exact pe
    refine Or.inr ⟨p.toNat, by omega, e, Or.inr ⟨by omega, by omega, by rw [e]; exact h1, fun q hq hc => ?_⟩⟩
    rw [e]
    exact h3 _ hc.1.2 hc
/-- the best operation is sought -/
theorem tw_bBest {X : zX} {Q : zO → zH → Prop} (K : zK yX4_boundOf cX4_boundOf 8 (some .int) [] 3 0 0 X) {w : tW} {m t uf bd : Int} {a b lf : Nat → Int} (hA : WfA (w 0)) (hm : 0 ≤ m ∧ m ≤ 3) (ht : 0 ≤ t ∧ t ≤ 1000)
    (hab : ∀ k : Int, 0 ≤ k → k < w 0 1 → sMc (w 0) k = m → a k.toNat = hdO (w 0) k ∧ b k.toNat = tlO (w 0) k ∧ 0 ≤ lf k.toNat ∧ lf k.toNat ≤ 30)
    (kont : ∀ c, bJn (w 0) lf m t (w 0 1) c → ∀ env, zsub env [(0, .ref 1000), (1, .int (iI m)), (2, .int (iI uf)), (3, .int (iI bd)), (4, .int (iI t)), (5, .int (iI c))] → zW X Q (tH (wX w a b lf)) 0 0 266 env []) :
    ∀ (r k : Nat), (k : Int) + r = w 0 1 → ∀ c, bJn (w 0) lf m t k c → ∀ env, zsub env [(0, .ref 1000), (1, .int (iI m)), (2, .int (iI uf)), (3, .int (iI bd)), (4, .int (iI t)), (5, .int (iI c)), (6, .int (iI k))] → zW X Q (tH (wX w a b lf)) 0 0 169 env [] := by
  have h20 := hA.2.1.1
  intro r
  induction r with
  | zero =>
    intro k hk c hc env he
    refine zW.cut he ?_
    have kk := kont c (by rw [show w 0 1 = (k : Int) by omega]; exact hc)
    refine z_iload K dX4_boundOf_169 rfl ?_
    refine z_aload_n K dX4_boundOf_171 rfl rfl rfl ?_
    refine t_geta K fd_X4_9_0 rfl dX4_boundOf_172 ?_
    refine j_iconst K dX4_boundOf_175 ?_
    refine t_ild K 0 203 rfl rfl rfl (by omega) (by omega) rfl dX4_boundOf_176 ?_
    rw [wX0, show (1 : Int).toNat = 1 from rfl]
    refine j_icmp_ge (tgt := 266) K dX4_boundOf_177 rfl (by omega) (by omega) (fun c_177 => ?_) (fun c_177 => ?_)
    · exact kk _ ⟨rfl, rfl, rfl, rfl, rfl, rfl, trivial⟩
    · exact absurd c_177 (by omega)
  | succ r ih =>
    intro k hk c hc env he
    refine zW.cut he ?_
    have n1 := fun c' h => ih (k + 1) (by omega) c' h
    clear ih kont
    have hcr : -1 ≤ c ∧ c < 20 := by
      rcases hc with ⟨h1, -⟩ | ⟨h1, h2, -⟩
      · omega
      · have := h1.1; omega
    have hkm := (hA.2.1.2 k (by omega) (by omega)).2.1
    have c258 : ∀ c', bJn (w 0) lf m t ((k : Int) + 1) c' → ∀ env, zsub env [(0, .ref 1000), (1, .int (iI m)), (2, .int (iI uf)), (3, .int (iI bd)), (4, .int (iI t)), (6, .int (iI k))] → zW X Q (tH (wX w a b lf)) 0 0 258 env [.int (iI c')] := fun c' hc' env he => by
      refine zW.cut he ?_
      have nx := n1 c' hc'
      refine z_istore K dX4_boundOf_258 (by decide) rfl ?_
      refine j_iinc K dX4_boundOf_260 rfl (by decide) rfl ?_
      refine z_goto (tgt := 169) K dX4_boundOf_263 rfl ?_
      exact nx _ ⟨rfl, rfl, rfl, rfl, rfl, rfl, rfl, trivial⟩
    have cno : ¬ bCd (w 0) lf m t k → ∀ env, zsub env [(0, .ref 1000), (1, .int (iI m)), (2, .int (iI uf)), (3, .int (iI bd)), (4, .int (iI t)), (5, .int (iI c)), (6, .int (iI k))] → zW X Q (tH (wX w a b lf)) 0 0 220 env [] := fun hn env he => by
      refine zW.cut he ?_
      have nx := c258 c (hc.no hn)
      refine j_iconst K dX4_boundOf_220 ?_
      refine z_istore K dX4_boundOf_221 (by decide) rfl ?_
      refine z_iload K dX4_boundOf_223 rfl ?_
      refine j_if_eq (tgt := 256) K dX4_boundOf_225 rfl (by omega) (fun c_225 => ?_) (fun c_225 => ?_)
      · refine z_iload K dX4_boundOf_256 rfl ?_
        exact nx _ ⟨rfl, rfl, rfl, rfl, rfl, rfl, trivial⟩
      · exact absurd rfl c_225
    have cyes : bCd (w 0) lf m t k → ∀ env, zsub env [(0, .ref 1000), (1, .int (iI m)), (2, .int (iI uf)), (3, .int (iI bd)), (4, .int (iI t)), (5, .int (iI c)), (6, .int (iI k))] → zW X Q (tH (wX w a b lf)) 0 0 216 env [] := fun hy env he => by
      refine zW.cut he ?_
      have tk := (hab k (by omega) (by omega) hy.2.1).2.1
      have tr := tlO_r hA hy.1
      have tc : c ≠ -1 → b c.toNat = tlO (w 0) c ∧ -30 ≤ tlO (w 0) c ∧ tlO (w 0) c ≤ 120 := fun q => by
        rcases hc with ⟨h1, -⟩ | ⟨h1, h2, -⟩
        · exact absurd h1 q
        · exact ⟨(hab c h1.1.1 h1.1.2 h1.2.1).2.1, tlO_r hA h1.1⟩
      have tk : b k = tlO (w 0) k := by rw [← tk]; rfl
      refine j_iconst K dX4_boundOf_216 ?_
      refine z_goto (tgt := 221) K dX4_boundOf_217 rfl ?_
      refine z_istore K dX4_boundOf_221 (by decide) rfl ?_
      refine z_iload K dX4_boundOf_223 rfl ?_
      refine j_if_eq (tgt := 256) K dX4_boundOf_225 rfl (by omega) (fun c_225 => ?_) (fun c_225 => ?_)
      · exact absurd c_225 (by decide)
      · refine z_iload K dX4_boundOf_228 rfl ?_
        refine j_iconst K dX4_boundOf_230 ?_
        refine j_icmp_eq (tgt := 251) K dX4_boundOf_231 rfl (by omega) (by omega) (fun c_231 => ?_) (fun c_231 => ?_)
        · have nx := c258 k (hc.new hy (Or.inl c_231) (Or.inl c_231))
          refine z_iload K dX4_boundOf_251 rfl ?_
          refine z_goto (tgt := 258) K dX4_boundOf_253 rfl ?_
          exact nx _ ⟨rfl, rfl, rfl, rfl, rfl, rfl, trivial⟩
        · obtain ⟨tc1, tc2⟩ := tc c_231
          refine z_aload_n K dX4_boundOf_234 rfl rfl rfl ?_
          refine t_geta K fd_X4_70_0 rfl dX4_boundOf_235 ?_
          refine z_iload K dX4_boundOf_238 rfl ?_
          refine t_ild K 28 20 rfl rfl rfl (by omega) (by omega) rfl dX4_boundOf_240 ?_
          rw [wX28, Int.toNat_natCast, tk]
          refine z_aload_n K dX4_boundOf_241 rfl rfl rfl ?_
          refine t_geta K fd_X4_70_0 rfl dX4_boundOf_242 ?_
          refine z_iload K dX4_boundOf_245 rfl ?_
          refine t_ild K 28 20 rfl rfl rfl (by omega) (by omega) rfl dX4_boundOf_247 ?_
          rw [wX28, tc1]
          refine j_icmp_le (tgt := 256) K dX4_boundOf_248 rfl (by omega) (by omega) (fun c_248 => ?_) (fun c_248 => ?_)
          · have nx := c258 c (hc.old c_231 c_248)
            refine z_iload K dX4_boundOf_256 rfl ?_
            exact nx _ ⟨rfl, rfl, rfl, rfl, rfl, rfl, trivial⟩
          · have nx := c258 k (hc.new hy (Or.inr c_248) (Or.inr (by omega)))
            refine z_iload K dX4_boundOf_251 rfl ?_
            refine z_goto (tgt := 258) K dX4_boundOf_253 rfl ?_
            exact nx _ ⟨rfl, rfl, rfl, rfl, rfl, rfl, trivial⟩
    clear c258 n1
    (try dsimp only [sRel, sDue, sWt, sLen, sSeq, sJb, sMc, sDu, sFa, sIx, sSu, sBn, sBf, sBl, sOn, sOr] at *)
    refine z_iload K dX4_boundOf_169 rfl ?_
    refine z_aload_n K dX4_boundOf_171 rfl rfl rfl ?_
    refine t_geta K fd_X4_9_0 rfl dX4_boundOf_172 ?_
    refine j_iconst K dX4_boundOf_175 ?_
    refine t_ild K 0 203 rfl rfl rfl (by omega) (by omega) rfl dX4_boundOf_176 ?_
    rw [wX0, show (1 : Int).toNat = 1 from rfl]
    refine j_icmp_ge (tgt := 266) K dX4_boundOf_177 rfl (by omega) (by omega) (fun c_177 => ?_) (fun c_177 => ?_)
    · exact absurd c_177 (by omega)
    · refine z_aload_n K dX4_boundOf_180 rfl rfl rfl ?_
      refine t_geta K fd_X4_9_0 rfl dX4_boundOf_181 ?_
      refine j_bipush K dX4_boundOf_184 (by decide +kernel) ?_
      refine z_iload K dX4_boundOf_186 rfl ?_
      refine j_iadd K dX4_boundOf_188 ?_
      refine t_ild K 0 203 rfl rfl rfl (by omega) (by omega) rfl dX4_boundOf_189 ?_
      refine z_iload_n K dX4_boundOf_190 rfl rfl ?_
      rw [wX0]
      refine j_icmp_ne (tgt := 220) K dX4_boundOf_191 rfl (by omega) (by omega) (fun c_191 => ?_) (fun c_191 => ?_)
      · have nx := cno (fun q => c_191 q.2.1)
        exact nx _ ⟨rfl, rfl, rfl, rfl, rfl, rfl, rfl, trivial⟩
      · obtain ⟨ha1, ha2, ha3, ha4⟩ := hab k (by omega) (by omega) c_191
        refine z_aload_n K dX4_boundOf_194 rfl rfl rfl ?_
        refine t_geta K fd_X4_73_0 rfl dX4_boundOf_195 ?_
        refine z_iload K dX4_boundOf_198 rfl ?_
        refine t_ild K 29 20 rfl rfl rfl (by omega) (by omega) rfl dX4_boundOf_200 ?_
        rw [wX29]
        refine j_if_le (tgt := 220) K dX4_boundOf_201 rfl (by omega) (fun c_201 => ?_) (fun c_201 => ?_)
        · have nx := cno (fun q => by have := q.2.2.1; omega)
          exact nx _ ⟨rfl, rfl, rfl, rfl, rfl, rfl, rfl, trivial⟩
        · refine z_aload_n K dX4_boundOf_204 rfl rfl rfl ?_
          refine t_geta K fd_X4_67_0 rfl dX4_boundOf_205 ?_
          refine z_iload K dX4_boundOf_208 rfl ?_
          refine t_ild K 27 20 rfl rfl rfl (by omega) (by omega) rfl dX4_boundOf_210 ?_
          rw [wX27, ha1]
          refine z_iload K dX4_boundOf_211 rfl ?_
          refine j_icmp_gt (tgt := 220) K dX4_boundOf_213 rfl (by have := hdO_r hA (k := k) (by omega); omega) (by omega) (fun c_213 => ?_) (fun c_213 => ?_)
          · have nx := cno (fun q => by have := q.2.2.2; omega)
            exact nx _ ⟨rfl, rfl, rfl, rfl, rfl, rfl, rfl, trivial⟩
          · have nx := cyes ⟨by omega, c_191, c_201, c_213⟩
            exact nx _ ⟨rfl, rfl, rfl, rfl, rfl, rfl, rfl, trivial⟩
/-- the time goes on -/
theorem tw_bTime {X : zX} {Q : zO → zH → Prop} (K : zK yX4_boundOf cX4_boundOf 8 (some .int) [] 3 0 0 X) {w : tW} {m : Int} {n : Nat} {a b : Nat → Int} {v0 : Int → Prop} (hA : WfA (w 0)) (hO : WfO (w 0)) (hm : 0 ≤ m ∧ m ≤ 3) (hn : sOn (w 0) m = n)
    (hab : ∀ k : Int, 0 ≤ k → k < w 0 1 → sMc (w 0) k = m → a k.toNat = hdO (w 0) k ∧ b k.toNat = tlO (w 0) k)
    (kont : ∀ v lf, v0 v → (0 ≤ v ∧ v ≤ 600) → ∀ env, zsub env [(3, .int (iI v))] → zW X Q (tH (wX w a b lf)) 0 0 319 env []) :
    ∀ (r : Nat) (t : Int) (lf : Nat → Int) (uf bd : Int), (401 - t).toNat < r → bIv (w 0) m n t lf uf bd v0 → ∀ env, zsub env [(0, .ref 1000), (1, .int (iI m)), (2, .int (iI uf)), (3, .int (iI bd)), (4, .int (iI t))] → zW X Q (tH (wX w a b lf)) 0 0 159 env [] := by
  have h20 := hA.2.1.1
  obtain ⟨o1, o2, o3, o4⟩ := hO m hm.1 hm.2
  intro r
  induction r with
  | zero => intro t lf uf bd hr; omega
  | succ r ih =>
    intro t lf uf bd hr hI env he
    refine zW.cut he ?_
    obtain ⟨i1, i2, i3, i4, i5⟩ := id hI
    have sr := sLf_r n i1
    have ufr : 0 ≤ uf ∧ uf ≤ 5 := by rw [i2]; omega
    have hlf : ∀ k : Int, 0 ≤ k → k < w 0 1 → sMc (w 0) k = m → a k.toNat = hdO (w 0) k ∧ b k.toNat = tlO (w 0) k ∧ 0 ≤ lf k.toNat ∧ lf k.toNat ≤ 30 := fun k k0 k1 k2 => by
      obtain ⟨p, p0, p1, pe⟩ := o4 k k0 k1 k2
      have := i1 p.toNat (by omega)
      rw [show ((p.toNat : Nat) : Int) = p by omega, pe] at this
      exact ⟨(hab k k0 k1 k2).1, (hab k k0 k1 k2).2, this⟩
    have stop : uf ≤ 0 → ∀ env, zsub env [(3, .int (iI bd))] → zW X Q (tH (wX w a b lf)) 0 0 319 env [] := fun q => kont bd lf (i5 bd ⟨1, Or.inl ⟨q, rfl⟩⟩) i4
    have best : 0 < uf → ∀ c, bJn (w 0) lf m t (w 0 1) c → ∀ env, zsub env [(0, .ref 1000), (1, .int (iI m)), (2, .int (iI uf)), (3, .int (iI bd)), (4, .int (iI t)), (5, .int (iI c))] → zW X Q (tH (wX w a b lf)) 0 0 266 env [] := fun hu c hc env he => by
      refine zW.cut he ?_
      rcases hc.bIn hO hm hn with ⟨rfl, hb⟩ | ⟨p, hp, pe, hb⟩
      · obtain ⟨q1, q2⟩ := hI.non hA hO hm hn hu hb
        have nx := ih (t + 1) lf uf bd (by omega) q2
        refine z_iload K dX4_boundOf_266 rfl ?_
        refine j_iconst K dX4_boundOf_268 ?_
        refine j_icmp_eq (tgt := 313) K dX4_boundOf_269 rfl (by omega) (by omega) (fun c_269 => ?_) (fun c_269 => ?_)
        · refine j_iinc K dX4_boundOf_313 rfl (by decide) rfl ?_
          refine z_goto (tgt := 159) K dX4_boundOf_316 rfl ?_
          exact nx _ ⟨rfl, rfl, rfl, rfl, rfl, trivial⟩
        · exact absurd rfl c_269
      · obtain ⟨q1, q2, q3, q4, q5, q6, q7, q8⟩ := hI.one hA hO hm hn hu hb
        rw [pe] at q2 q3 q4 q5 q7 q8
        have tk := hlf c q4.1 q4.2 (by rw [← pe]; exact (o2 p (by omega) (by omega)).2)
        have tr := tlO_r hA q4
        refine z_iload K dX4_boundOf_266 rfl ?_
        refine j_iconst K dX4_boundOf_268 ?_
        refine j_icmp_eq (tgt := 313) K dX4_boundOf_269 rfl (by omega) (by omega) (fun c_269 => ?_) (fun c_269 => ?_)
        · exact absurd c_269 (by omega)
        · refine z_aload_n K dX4_boundOf_272 rfl rfl rfl ?_
          refine t_geta K fd_X4_73_0 rfl dX4_boundOf_273 ?_
          refine z_iload K dX4_boundOf_276 rfl ?_
          refine z_dup2 K dX4_boundOf_278 rfl rfl ?_
          refine t_ild K 29 20 rfl rfl rfl (by omega) (by omega) rfl dX4_boundOf_279 ?_
          rw [wX29]
          refine j_iconst K dX4_boundOf_280 ?_
          refine j_isub K dX4_boundOf_281 ?_
          refine t_ist K 29 20 rfl rfl rfl (by omega) (by omega) rfl dX4_boundOf_282 ?_
          rw [wX_c]
          refine z_aload_n K dX4_boundOf_283 rfl rfl rfl ?_
          refine t_geta K fd_X4_73_0 rfl dX4_boundOf_284 ?_
          refine z_iload K dX4_boundOf_287 rfl ?_
          refine t_ild K 29 20 rfl rfl rfl (by omega) (by omega) rfl dX4_boundOf_289 ?_
          rw [wX29, sup_s]
          refine j_if_ne (tgt := 313) K dX4_boundOf_290 rfl (by omega) (fun c_290 => ?_) (fun c_290 => ?_)
          · have nx := ih (t + 1) _ _ _ (by omega) (q7 c_290)
            refine j_iinc K dX4_boundOf_313 rfl (by decide) rfl ?_
            refine z_goto (tgt := 159) K dX4_boundOf_316 rfl ?_
            exact nx _ ⟨rfl, rfl, rfl, rfl, rfl, trivial⟩
          · have nx := ih (t + 1) _ _ _ (by omega) (q8 c_290)
            refine j_iinc K dX4_boundOf_293 rfl (by decide) rfl ?_
            refine z_iload_n K dX4_boundOf_296 rfl rfl ?_
            refine z_iload K dX4_boundOf_297 rfl ?_
            refine j_iconst K dX4_boundOf_299 ?_
            refine j_iadd K dX4_boundOf_300 ?_
            refine z_aload_n K dX4_boundOf_301 rfl rfl rfl ?_
            refine t_geta K fd_X4_70_0 rfl dX4_boundOf_302 ?_
            refine z_iload K dX4_boundOf_305 rfl ?_
            refine t_ild K 28 20 rfl rfl rfl (by omega) (by omega) rfl dX4_boundOf_307 ?_
            rw [wX28, tk.2.1]
            refine j_iadd K dX4_boundOf_308 ?_
            refine z_calls K (s_max (by omega) (by omega)) cS_X4_167 rfl rfl (by decide) (Nat.le_of_ble_eq_true rfl) (Nat.le_refl _) (Nat.le_refl _) dX4_boundOf_309 ?_
            refine z_istore_n K dX4_boundOf_312 rfl (by decide) rfl ?_
            refine j_iinc K dX4_boundOf_313 rfl (by decide) rfl ?_
            refine z_goto (tgt := 159) K dX4_boundOf_316 rfl ?_
            exact nx _ ⟨rfl, rfl, rfl, rfl, rfl, trivial⟩
    have inn := fun hu => tw_bBest K hA hm (by omega) hlf (best hu) (w 0 1).toNat 0 (by omega) (-1) (Or.inl ⟨rfl, fun l hl hc => by have := hc.1.1; omega⟩)
    have inn : 0 < uf → ∀ env, zsub env [(0, .ref 1000), (1, .int (iI m)), (2, .int (iI uf)), (3, .int (iI bd)), (4, .int (iI t)), (5, .int (iI (-1))), (6, .int (iI 0))] → zW X Q (tH (wX w a b lf)) 0 0 169 env [] := inn
    clear best ih
    refine z_iload_n K dX4_boundOf_159 rfl rfl ?_
    refine j_if_le (tgt := 319) K dX4_boundOf_160 rfl (by omega) (fun c_160 => ?_) (fun c_160 => ?_)
    · have nx := stop c_160
      exact nx _ ⟨rfl, trivial⟩
    · have nx := inn c_160
      refine j_iconst K dX4_boundOf_163 ?_
      refine z_istore K dX4_boundOf_164 (by decide) rfl ?_
      refine j_iconst K dX4_boundOf_166 ?_
      refine z_istore K dX4_boundOf_167 (by decide) rfl ?_
      exact nx _ ⟨rfl, rfl, rfl, rfl, rfl, rfl, rfl, trivial⟩
/-- the bound of a machine -/
theorem tw_boundOf {w : tW} {m : Int} (hA : WfA (w 0)) (hO : WfO (w 0)) (hm : 0 ≤ m ∧ m ≤ 3) : tMi yX4_boundOf cX4_boundOf 8 .int 3 [.int (iI m)] w (fun v w' => bOn (w 0) m v ∧ Fr [27, 28, 29] w w' ∧ 0 ≤ v ∧ v ≤ 600) := by
  have h20 := hA.2.1.1
  obtain ⟨o1, o2, o3, o4⟩ := hO m hm.1 hm.2
  obtain ⟨n, hn⟩ := Int.eq_ofNat_of_zero_le o1.1
  refine zMet.of (by decide) (Nat.le_of_ble_eq_true rfl) fun X K => ?_
  have fin : ∀ a b lf v, bOn (w 0) m v → (0 ≤ v ∧ v ≤ 600) → ∀ env, zsub env [(3, .int (iI v))] → zW X (zPi fun x h' => ∃ v w', x = iI v ∧ h' = tH w' ∧ (bOn (w 0) m v ∧ Fr [27, 28, 29] w w' ∧ 0 ≤ v ∧ v ≤ 600)) (tH (wX w a b lf)) 0 0 319 env [] := fun a b lf v h1 h2 env he => by
    refine zW.cut he ?_
    have hF : Fr [27, 28, 29] w (wX w a b lf) := fun f hf => wX_f (fun e => hf (by rw [e]; decide)) (fun e => hf (by rw [e]; decide)) (fun e => hf (by rw [e]; decide))
    refine z_iload_n K dX4_boundOf_319 rfl rfl ?_
    exact t_iret K (Nat.le_refl _) (Nat.le_refl _) (⟨h1, hF, h2⟩) dX4_boundOf_320
  have hmid : ∀ a b c, bPr (w 0) m (sOn (w 0) m) a b c → ∀ env, zsub env [(0, .ref 1000), (1, .int (iI m)), (2, .int (iI (sOn (w 0) m)))] → zW X (zPi fun x h' => ∃ v w', x = iI v ∧ h' = tH w' ∧ (bOn (w 0) m v ∧ Fr [27, 28, 29] w w' ∧ 0 ≤ v ∧ v ≤ 600)) (tH (wX w a b c)) 0 0 154 env [] := fun a b c hP env he => by
    refine zW.cut he ?_
    have hc : ∀ k : Int, 0 ≤ k → k < w 0 1 → sMc (w 0) k = m → a k.toNat = hdO (w 0) k ∧ b k.toNat = tlO (w 0) k ∧ c k.toNat = sDu (w 0) k := fun k k0 k1 k2 => by
      obtain ⟨p, p0, p1, pe⟩ := o4 k k0 k1 k2
      have := hP p p0 p1
      rw [pe] at this
      exact this
    have hl : ∀ p : Nat, p < n → 1 ≤ c (sOr (w 0) m p).toNat ∧ c (sOr (w 0) m p).toNat ≤ 30 := fun p hp => by
      obtain ⟨q1, q2⟩ := o2 p (by omega) (by omega)
      rw [(hP p (by omega) (by omega)).2.2]
      exact (hA.2.1.2 _ q1.1 q1.2).2.2.1
    have go := tw_bTime K (v0 := bOn (w 0) m) hA hO hm hn (fun k k0 k1 k2 => ⟨(hc k k0 k1 k2).1, (hc k k0 k1 k2).2.1⟩) (fun v lf h1 h2 => fin a b lf v h1 h2) 402 0 c n 0 (by omega) ⟨fun p hp => by have := hl p hp; omega, by rw [cLf_all n (fun p hp => by have := hl p hp; omega)], ⟨by omega, by have := (sLf_r n (fun p hp => by have := hl p hp; omega : ∀ p : Nat, p < n → 0 ≤ c (sOr (w 0) m p).toNat ∧ c (sOr (w 0) m p).toNat ≤ 30)).1; omega⟩, by omega, fun v ⟨N, hv⟩ => ⟨N, by rw [hn]; exact bR_congr N _ _ _ _ _ _ (fun k k0 k1 k2 => by rw [(hc k k0 k1 k2).2.2]; exact congrArg (w 0) (by omega)) hv⟩⟩
    rw [hn]
    clear hc hl
    refine j_iconst K dX4_boundOf_154 ?_
    refine z_istore_n K dX4_boundOf_155 rfl (by decide) rfl ?_
    refine j_iconst K dX4_boundOf_156 ?_
    refine z_istore K dX4_boundOf_157 (by decide) rfl ?_
    exact go _ ⟨rfl, rfl, rfl, rfl, rfl, trivial⟩
  have prep := tw_bPrep K hA hO hm hmid n 0 (by omega) (by omega) (w 27) (w 28) (w 29) (fun p p0 p1 => by omega)
  rw [wX_i] at prep
  clear hmid fin
  refine j_iconst K dX4_boundOf_0 ?_
  refine z_istore_n K dX4_boundOf_1 rfl (by decide) rfl ?_
  refine j_iconst K dX4_boundOf_2 ?_
  refine z_istore_n K dX4_boundOf_3 rfl (by decide) rfl ?_
  exact prep _ ⟨rfl, rfl, rfl, rfl, trivial⟩
def bndQ (w : tW) (m : Int) (v : Int) (w' : tW) : Prop := bOn (w 0) m v ∧ Fr [3, 27, 28, 29] w w' ∧ w' 3 0 = 0
theorem tw_bound {w : tW} {m : Int} (hm : -2147483648 ≤ m ∧ m ≤ 2147483647) (hA : WfA (w 0)) (hO : WfO (w 0)) : tMi yX4_bound cX4_bound 2 .int 4 [.int (iI m)] w (pubQ w (tcMach m) (bndQ w m)) := by
  refine zMet.of (by decide) (Nat.le_of_ble_eq_true rfl) fun X K => ?_
  have tail : ∀ t : Int, t = tcMach m → 0 ≤ t ∧ t ≤ 1 → (t = 0 → 0 ≤ m ∧ m ≤ 3) → ∀ env, zsub env [(0, .ref 1000), (1, .int (iI m))] → zW X (zPi fun x h' => ∃ v9 w', x = iI v9 ∧ h' = tH w' ∧ pubQ w (tcMach m) (bndQ w m) v9 w') (tH w) 0 0 13 env [.int (iI t), .ref 1000] := by
    intro t ht hr h5 env he
    refine zW.cut he ?_
    have rec9 : t = 0 → tMi yX4_boundOf cX4_boundOf 8 .int 3 [.int (iI m)] (tset w 3 0 0) (fun v w' => bOn (w 0) m v ∧ Fr [27, 28, 29] (tset w 3 0 0) w' ∧ 0 ≤ v ∧ v ≤ 600) := fun t0 => tw_boundOf (w := tset w 3 0 0) hA hO (h5 t0)
    refine t_puti K fd_X4_79_0 ⟨_, rfl, Or.inl rfl⟩ (by decide) rfl rfl dX4_bound_13 ?_
    refine z_aload_n K dX4_bound_16 rfl rfl rfl ?_
    refine t_geti K fd_X4_79_0 (by decide) rfl dX4_bound_17 ?_
    refine j_if_le (tgt := 27) K dX4_bound_20 rfl (by rw [tset_s]; omega) (fun c_20 => ?_) (fun c_20 => ?_)
    · rw [tset_s] at c_20
      obtain rfl : t = 0 := by omega
      refine z_aload_n K dX4_bound_27 rfl rfl rfl ?_
      refine z_iload_n K dX4_bound_28 rfl rfl ?_
      refine t_calli K (rec9 rfl) cV_X4_276_X4 rfl rfl (by decide) (Nat.le_of_ble_eq_true rfl) (Nat.le_refl _) (Nat.le_refl _) dX4_bound_29 ?_
      rintro v' W' ⟨q1, q2, q3, q4⟩
      exact t_iret K (Nat.le_refl _) (Nat.le_refl _) (by first | exact ⟨fun q => by omega, fun q => by rw [ht]⟩ | exact ⟨fun q => ⟨q1, fun f hf => by rw [q2 f (fun e => hf (by revert e; simp; omega))]; exact tset_g (fun e => hf (by rw [e]; decide)), by rw [q2 3 (by decide)]; exact tset_s⟩, fun q => absurd ht.symm q⟩) dX4_bound_32
    · rw [tset_s] at c_20
      refine j_iconst K dX4_bound_23 ?_
      refine z_goto (tgt := 32) K dX4_bound_24 rfl ?_
      exact t_iret K (Nat.le_refl _) (Nat.le_refl _) (by first | exact ⟨fun q => by omega, fun q => by rw [ht]⟩ | exact ⟨fun q => ⟨q1, fun f hf => by rw [q2 f (fun e => hf (by revert e; simp; omega))]; exact tset_g (fun e => hf (by rw [e]; decide)), by rw [q2 3 (by decide)]; exact tset_s⟩, fun q => absurd ht.symm q⟩) dX4_bound_32
  refine z_aload_n K dX4_bound_0 rfl rfl rfl ?_
  refine z_iload_n K dX4_bound_1 rfl rfl ?_
  refine z_calls K (s_isMachine (by omega)) cS_X4_122 rfl rfl (by decide) (Nat.le_of_ble_eq_true rfl) (Nat.le_refl _) (Nat.le_refl _) dX4_bound_2 ?_
  refine j_if_eq (tgt := 12) K dX4_bound_5 rfl (b01r _) (fun c_5 => ?_) (fun c_5 => ?_)
  · rw [bI_eq] at c_5
    refine j_iconst K dX4_bound_12 ?_
    exact tail _ (by unfold tcMach; split <;> omega) (by omega) (by omega) _ ⟨rfl, rfl, trivial⟩
  · rw [bI_ne] at c_5
    refine j_iconst K dX4_bound_8 ?_
    refine z_goto (tgt := 13) K dX4_bound_9 rfl ?_
    exact tail _ (by unfold tcMach; split <;> omega) (by omega) (by omega) _ ⟨rfl, rfl, trivial⟩
theorem tw_lowerBound {w : tW} (hA : WfA (w 0)) (hO : WfO (w 0)) : tMi yX4_lowerBound cX4_lowerBound 3 .int 4 [] w (fun v w' => lbQ (w 0) v ∧ Fr [3, 27, 28, 29] w w' ∧ w' 3 0 = 0) := by
  have h05 := hA.1.1
  refine zMet.of (by decide) (Nat.le_of_ble_eq_true rfl) fun X K => ?_
  have hFr : ∀ W W' : tW, Fr [3, 27, 28, 29] w W → Fr [27, 28, 29] W W' → Fr [3, 27, 28, 29] w W' := fun W W' h1 h2 f hf => (h2 f (fun e => hf (List.mem_cons_of_mem _ e))).trans (h1 f hf)
  have jobs : ∀ a : Int, lbR (w 0) 4 a → (0 ≤ a ∧ a ≤ 1000) → ∀ W : tW, Fr [3, 27, 28, 29] w W → W 3 0 = 0 → ∀ (r j : Nat), (j : Int) + r = w 0 0 → ∀ env, zsub env [(0, .ref 1000), (1, .int (iI (lbJ (w 0) a j))), (2, .int (iI j))] → zW X (zPi fun x h' => ∃ v w', x = iI v ∧ h' = tH w' ∧ (lbQ (w 0) v ∧ Fr [3, 27, 28, 29] w w' ∧ w' 3 0 = 0)) (tH W) 0 0 32 env [] := by
    intro a ha har W hF h3 r
    have W0 : W 0 = w 0 := hF 0 (by decide)
    induction r with
    | zero =>
      intro j hj env he
      refine zW.cut he ?_
      have fin : lbQ (w 0) (lbJ (w 0) a j) := ⟨a, ha, by rw [show (w 0 0).toNat = j by omega]⟩
      refine z_iload_n K dX4_lowerBound_32 rfl rfl ?_
      refine z_aload_n K dX4_lowerBound_33 rfl rfl rfl ?_
      refine t_geta K fd_X4_9_0 rfl dX4_lowerBound_34 ?_
      refine j_iconst K dX4_lowerBound_37 ?_
      refine t_ild K 0 203 rfl rfl rfl (by omega) (by omega) rfl dX4_lowerBound_38 ?_
      rw [W0, show (0 : Int).toNat = 0 from rfl]
      refine j_icmp_ge (tgt := 84) K dX4_lowerBound_39 rfl (by omega) (by omega) (fun c_39 => ?_) (fun c_39 => ?_)
      · refine z_iload_n K dX4_lowerBound_84 rfl rfl ?_
        exact t_iret K (Nat.le_refl _) (Nat.le_refl _) (⟨fin, hF, h3⟩) dX4_lowerBound_85
      · exact absurd c_39 (by omega)
    | succ r ih =>
      intro j hj env he
      refine zW.cut he ?_
      have nx := ih (j + 1) (by omega)
      clear ih
      obtain ⟨j1, j2, j3, j4⟩ := hA.1.2 j (by omega) (by omega)
      have hb := lbJ_r hA har j (by omega)
      have hr := rst_r hA (j := j) (i := 0) (by omega) (by omega) (sLen (w 0) j).toNat (by omega)
      have yes : 0 < sLen (w 0) j → (0 ≤ sSeq (w 0) j 0 ∧ sSeq (w 0) j 0 < w 0 1) ∧ rOf (w 0) (sSeq (w 0) j 0) = rst (w 0) j 0 (sLen (w 0) j).toNat ∧ lbJ (w 0) a (j + 1) = max (lbJ (w 0) a j) (sRel (w 0) j + rst (w 0) j 0 (sLen (w 0) j).toNat) := fun q => by
        obtain ⟨q1, q2, q3⟩ := hA.2.2.1 j 0 (by omega) (by omega) (by omega) q
        refine ⟨q1, ?_, if_pos q⟩
        unfold rOf
        rw [q2, q3, show sLen (w 0) j - 0 = sLen (w 0) j by omega]
      have no : ¬ 0 < sLen (w 0) j → lbJ (w 0) a (j + 1) = lbJ (w 0) a j := fun q => if_neg q
      (try dsimp only [sRel, sDue, sWt, sLen, sSeq, sJb, sMc, sDu, sFa, sIx, sSu, sBn, sBf, sBl, sOn, sOr] at *)
      refine z_iload_n K dX4_lowerBound_32 rfl rfl ?_
      refine z_aload_n K dX4_lowerBound_33 rfl rfl rfl ?_
      refine t_geta K fd_X4_9_0 rfl dX4_lowerBound_34 ?_
      refine j_iconst K dX4_lowerBound_37 ?_
      refine t_ild K 0 203 rfl rfl rfl (by omega) (by omega) rfl dX4_lowerBound_38 ?_
      rw [W0, show (0 : Int).toNat = 0 from rfl]
      refine j_icmp_ge (tgt := 84) K dX4_lowerBound_39 rfl (by omega) (by omega) (fun c_39 => ?_) (fun c_39 => ?_)
      · exact absurd c_39 (by omega)
      · refine z_aload_n K dX4_lowerBound_42 rfl rfl rfl ?_
        refine t_geta K fd_X4_9_0 rfl dX4_lowerBound_43 ?_
        refine j_bipush K dX4_lowerBound_46 (by decide +kernel) ?_
        refine z_iload_n K dX4_lowerBound_48 rfl rfl ?_
        refine j_iadd K dX4_lowerBound_49 ?_
        refine t_ild K 0 203 rfl rfl rfl (by omega) (by omega) rfl dX4_lowerBound_50 ?_
        rw [W0]
        refine j_if_le (tgt := 78) K dX4_lowerBound_51 rfl (by omega) (fun c_51 => ?_) (fun c_51 => ?_)
        · rw [no (by omega)] at nx
          refine j_iinc K dX4_lowerBound_78 rfl (by decide) rfl ?_
          refine z_goto (tgt := 32) K dX4_lowerBound_81 rfl ?_
          exact nx _ ⟨rfl, rfl, rfl, trivial⟩
        · obtain ⟨y1, y2, y3⟩ := yes (by omega)
          rw [y3] at nx
          refine z_iload_n K dX4_lowerBound_54 rfl rfl ?_
          refine z_aload_n K dX4_lowerBound_55 rfl rfl rfl ?_
          refine t_geta K fd_X4_9_0 rfl dX4_lowerBound_56 ?_
          refine j_iconst K dX4_lowerBound_59 ?_
          refine z_iload_n K dX4_lowerBound_60 rfl rfl ?_
          refine j_iadd K dX4_lowerBound_61 ?_
          refine t_ild K 0 203 rfl rfl rfl (by omega) (by omega) rfl dX4_lowerBound_62 ?_
          rw [W0]
          refine z_aload_n K dX4_lowerBound_63 rfl rfl rfl ?_
          refine z_aload_n K dX4_lowerBound_64 rfl rfl rfl ?_
          refine z_iload_n K dX4_lowerBound_65 rfl rfl ?_
          refine j_iconst K dX4_lowerBound_66 ?_
          refine t_callp K (tw_sequence (w := W) (by omega) (by omega)) cV_X4_110_X4 rfl rfl (by decide) (Nat.le_of_ble_eq_true rfl) (Nat.le_refl _) (Nat.le_refl _) dX4_lowerBound_67 ?_
          rw [W0]
          refine t_callp K (tw_restOf (w := W) (by rw [W0]; exact hA) (by rw [W0]; exact y1)) cV_X4_232_X4 rfl rfl (by decide) (Nat.le_of_ble_eq_true rfl) (Nat.le_refl _) (Nat.le_refl _) dX4_lowerBound_70 ?_
          rw [W0, y2]
          refine j_iadd K dX4_lowerBound_73 ?_
          refine z_calls K (s_max (by omega) (by omega)) cS_X4_167 rfl rfl (by decide) (Nat.le_of_ble_eq_true rfl) (Nat.le_refl _) (Nat.le_refl _) dX4_lowerBound_74 ?_
          refine z_istore_n K dX4_lowerBound_77 rfl (by decide) rfl ?_
          refine j_iinc K dX4_lowerBound_78 rfl (by decide) rfl ?_
          refine z_goto (tgt := 32) K dX4_lowerBound_81 rfl ?_
          exact nx _ ⟨rfl, rfl, rfl, trivial⟩
  have machs : ∀ (r m : Nat), m + r = 4 → ∀ (a : Int) (W : tW), lbR (w 0) m a → (0 ≤ a ∧ a ≤ 600) → Fr [3, 27, 28, 29] w W → W 3 0 = 0 → ∀ env, zsub env [(0, .ref 1000), (1, .int (iI a)), (2, .int (iI m))] → zW X (zPi fun x h' => ∃ v w', x = iI v ∧ h' = tH w' ∧ (lbQ (w 0) v ∧ Fr [3, 27, 28, 29] w w' ∧ w' 3 0 = 0)) (tH W) 0 0 9 env [] := by
    intro r
    induction r with
    | zero =>
      intro m hm a W ha har hF h3 env he
      obtain rfl : m = 4 := by omega
      refine zW.cut he ?_
      have go := jobs a ha (by omega) W hF h3 (w 0 0).toNat 0 (by omega)
      have go : ∀ env, zsub env [(0, .ref 1000), (1, .int (iI a)), (2, .int (iI 0))] → _ := go
      clear jobs
      refine z_iload_n K dX4_lowerBound_9 rfl rfl ?_
      refine j_iconst K dX4_lowerBound_10 ?_
      refine j_icmp_ge (tgt := 30) K dX4_lowerBound_11 rfl (by omega) (by omega) (fun c_11 => ?_) (fun c_11 => ?_)
      · refine j_iconst K dX4_lowerBound_30 ?_
        refine z_istore_n K dX4_lowerBound_31 rfl (by decide) rfl ?_
        exact go _ ⟨rfl, rfl, rfl, trivial⟩
      · exact absurd c_11 (by omega)
    | succ r ih =>
      intro m hm a W ha har hF h3 env he
      refine zW.cut he ?_
      have W0 : W 0 = w 0 := hF 0 (by decide)
      have hbo := tw_boundOf (w := W) (m := m) (by rw [W0]; exact hA) (by rw [W0]; exact hO) (by omega)
      rw [W0] at hbo
      have nx : ∀ v W', bOn (w 0) m v → Fr [27, 28, 29] W W' → (0 ≤ v ∧ v ≤ 600) → _ := fun v W' q1 q2 q3 => ih (m + 1) (by omega) (max a v) W' ⟨a, v, ha, q1, rfl⟩ (by omega) (hFr W W' hF q2) (by rw [q2 3 (by decide)]; exact h3)
      clear ih jobs
      refine z_iload_n K dX4_lowerBound_9 rfl rfl ?_
      refine j_iconst K dX4_lowerBound_10 ?_
      refine j_icmp_ge (tgt := 30) K dX4_lowerBound_11 rfl (by omega) (by omega) (fun c_11 => ?_) (fun c_11 => ?_)
      · exact absurd c_11 (by omega)
      · refine z_iload_n K dX4_lowerBound_14 rfl rfl ?_
        refine z_aload_n K dX4_lowerBound_15 rfl rfl rfl ?_
        refine z_iload_n K dX4_lowerBound_16 rfl rfl ?_
        refine t_calli K (hbo) cV_X4_276_X4 rfl rfl (by decide) (Nat.le_of_ble_eq_true rfl) (Nat.le_refl _) (Nat.le_refl _) dX4_lowerBound_17 ?_
        rintro v' W' ⟨q1, q2, q3⟩
        refine z_calls K (s_max (by omega) (by omega)) cS_X4_167 rfl rfl (by decide) (Nat.le_of_ble_eq_true rfl) (Nat.le_refl _) (Nat.le_refl _) dX4_lowerBound_20 ?_
        refine z_istore_n K dX4_lowerBound_23 rfl (by decide) rfl ?_
        refine j_iinc K dX4_lowerBound_24 rfl (by decide) rfl ?_
        refine z_goto (tgt := 9) K dX4_lowerBound_27 rfl ?_
        exact nx _ _ q1 q2 q3 _ ⟨rfl, rfl, rfl, trivial⟩
  have go := machs 4 0 (by omega) 0 (tset w 3 0 0) rfl (by omega) (fun f hf => tset_g (fun e => hf (by rw [e]; decide))) tset_s
  clear machs jobs
  refine z_aload_n K dX4_lowerBound_0 rfl rfl rfl ?_
  refine j_iconst K dX4_lowerBound_1 ?_
  refine t_puti K fd_X4_79_0 ⟨_, rfl, Or.inl rfl⟩ (by decide) rfl rfl dX4_lowerBound_2 ?_
  refine j_iconst K dX4_lowerBound_5 ?_
  refine z_istore_n K dX4_lowerBound_6 rfl (by decide) rfl ?_
  refine j_iconst K dX4_lowerBound_7 ?_
  refine z_istore_n K dX4_lowerBound_8 rfl (by decide) rfl ?_
  exact go _ ⟨rfl, rfl, rfl, trivial⟩

