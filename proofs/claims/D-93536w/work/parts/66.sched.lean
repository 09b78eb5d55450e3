/-! ===== the component: links, places, the schedule ===== -/
section XSd
variable {b : Nat} {u : tW} {g : zH}
theorem x2_isDone {k : Int} {M : Nat} (hk : k = -1 ∨ (0 ≤ k ∧ k < 20)) (hM : u 5 1 = (M : Int)) (h20 : M < 2 ^ 20) : zMet yX2_isDone (ws_ yX2_isDone cX2_isDone 2 (some .boolean)) 1 [.ref b, .int (iI k)] (sH b u g) (zRet (.int (iI (bI (k = -1 ∨ M / 2 ^ k.toNat % 2 = 1)))) (sH b u g)) 0 0 := by
  have hp : (2 : Nat) ^ 20 < 2 ^ 31 := by decide
  refine zMet.of (by decide) (Nat.le_of_ble_eq_true rfl) fun X K => ?_
  refine z_iload_n K dX2_isDone_0 rfl rfl ?_
  refine j_iconst K dX2_isDone_1 ?_
  refine j_icmp_eq (tgt := 17) K dX2_isDone_2 rfl (by omega) (by omega) (fun c_2 => ?_) (fun c_2 => ?_)
  · refine j_iconst K dX2_isDone_17 ?_
    refine z_goto (tgt := 22) K dX2_isDone_18 rfl ?_
    exact z_zret K (iI_b (by omega)) (by omega) (by omega) (⟨by first | rw [show bI (k = -1 ∨ M / 2 ^ k.toNat % 2 = 1) = 1 from if_pos (Or.inl c_2)] | rw [show bI (((j : Nat) : Int) = -1 ∨ M / 2 ^ ((j : Nat) : Int).toNat % 2 = 1) = 1 from if_pos (Or.inr (by rw [Int.toNat_natCast]; omega))] | rw [show bI (((j : Nat) : Int) = -1 ∨ M / 2 ^ ((j : Nat) : Int).toNat % 2 = 1) = 0 from if_neg (by rw [Int.toNat_natCast]; omega)], rfl⟩) dX2_isDone_22
  · refine z_aload_n K dX2_isDone_5 rfl rfl rfl ?_
    refine z_get K fd_X2_137_2 (sH_shop) rfl dX2_isDone_6 ?_
    rw [hM]
    refine z_iload_n K dX2_isDone_9 rfl rfl ?_
    obtain ⟨j, rfl⟩ : ∃ j : Nat, k = j := ⟨k.toNat, by omega⟩
    refine z_ishr K dX2_isDone_10 ?_
    rw [sh_r (by omega) (by omega)]
    refine j_iconst K dX2_isDone_11 ?_
    refine z_iand K dX2_isDone_12 ?_
    rw [and_1 (Nat.lt_of_le_of_lt (Nat.div_le_self _ _) (by omega))]
    refine j_iconst K dX2_isDone_13 ?_
    refine j_icmp_ne (tgt := 21) K dX2_isDone_14 rfl (by omega) (by omega) (fun c_14 => ?_) (fun c_14 => ?_)
    · refine j_iconst K dX2_isDone_21 ?_
      exact z_zret K (iI_b (by omega)) (by omega) (by omega) (⟨by first | rw [show bI (k = -1 ∨ M / 2 ^ k.toNat % 2 = 1) = 1 from if_pos (Or.inl c_2)] | rw [show bI (((j : Nat) : Int) = -1 ∨ M / 2 ^ ((j : Nat) : Int).toNat % 2 = 1) = 1 from if_pos (Or.inr (by rw [Int.toNat_natCast]; omega))] | rw [show bI (((j : Nat) : Int) = -1 ∨ M / 2 ^ ((j : Nat) : Int).toNat % 2 = 1) = 0 from if_neg (by rw [Int.toNat_natCast]; omega)], rfl⟩) dX2_isDone_22
    · refine j_iconst K dX2_isDone_17 ?_
      refine z_goto (tgt := 22) K dX2_isDone_18 rfl ?_
      exact z_zret K (iI_b (by omega)) (by omega) (by omega) (⟨by first | rw [show bI (k = -1 ∨ M / 2 ^ k.toNat % 2 = 1) = 1 from if_pos (Or.inl c_2)] | rw [show bI (((j : Nat) : Int) = -1 ∨ M / 2 ^ ((j : Nat) : Int).toNat % 2 = 1) = 1 from if_pos (Or.inr (by rw [Int.toNat_natCast]; omega))] | rw [show bI (((j : Nat) : Int) = -1 ∨ M / 2 ^ ((j : Nat) : Int).toNat % 2 = 1) = 0 from if_neg (by rw [Int.toNat_natCast]; omega)], rfl⟩) dX2_isDone_22
/-- the world's times are these; what is kept of the world: all but its times -/
def SR (s o : Nat → Int) (hd hu : Int) (rd st : Nat → Int) (u : tW) : Prop := u 0 = s ∧ (∀ k : Int, 0 ≤ k → k < s 1 → u 1 k.toNat = sAh s o k) ∧ (∀ k : Nat, (k : Int) < s 1 → 0 ≤ st k → u 2 k = rd k ∧ u 3 k = st k ∧ u 4 k = st k + s (82 + (k : Int)).toNat) ∧ u 5 1 = (dnM st (s 1).toNat : Nat) ∧ u 5 0 = gMx s st (s 1).toNat ∧ u 5 2 = hd ∧ u 5 3 = hu
/-- of the world nothing else has changed -/
def T3 (u : tW) : Prop := ∀ k : Nat, 0 ≤ u 3 k ∧ u 3 k ≤ 100000
def SK (u u' : tW) : Prop := (∀ f, f ≠ 1 → f ≠ 2 → f ≠ 3 → f ≠ 4 → f ≠ 5 → u' f = u f) ∧ u' 5 2 = u 5 2 ∧ u' 5 3 = u 5 3 ∧ (T3 u → T3 u')
theorem SK.rf {u : tW} : SK u u := ⟨fun _ _ _ _ _ _ => rfl, rfl, rfl, id⟩
theorem SK.tr {u v w : tW} (h : SK u v) (g : SK v w) : SK u w := ⟨fun f a b c d e => (g.1 f a b c d e).trans (h.1 f a b c d e), g.2.1.trans h.2.1, g.2.2.1.trans h.2.2.1, fun z => g.2.2.2 (h.2.2.2 z)⟩
theorem SK.bk {b : Nat} {u u' : tW} {g : zH} (h : SK u u') (hB : BkOk b u g) : BkOk b u' g := by
  have e0 := h.1 0 (by decide) (by decide) (by decide) (by decide) (by decide)
  have e7 := h.1 7 (by decide) (by decide) (by decide) (by decide) (by decide)
  have e8 := h.1 8 (by decide) (by decide) (by decide) (by decide) (by decide)
  intro m i
  rw [e0, e7, e8]
  exact hB m i
theorem SK.ts {u : tW} {f i : Nat} {v : Int} (h : f = 1 ∨ f = 2 ∨ (f = 3 ∧ 0 ≤ v ∧ v ≤ 100000) ∨ f = 4 ∨ (f = 5 ∧ i < 2)) : SK u (tset u f i v) := by
  refine ⟨fun f' a1 a2 a3 a4 a5 => tsG (by omega), ?_, ?_, fun hz k => ?_⟩
  · by_cases e : f = 5
    · exact tsN (by omega)
    · exact tsF (by omega)
  · by_cases e : f = 5
    · exact tsN (by omega)
    · exact tsF (by omega)
  · by_cases e : f = 3
    · by_cases e2 : k = i
      · subst e e2; rw [tsS]; omega
      · rw [tsN e2]; exact hz k
    · rw [tsF (fun q => e q.symm)]; exact hz k
theorem x2_link {a : Nat} (ha : a < 16) (hb : 1000 ≤ b) (hA : WfA (u 0)) (hO : WfO (u 0)) : zMet yX2_link (ws_ yX2_link cX2_link 5 none) 4 [.ref b, .int (iI a)] (sH b u g) (fun o h' => ∃ f : Nat → Int, o = .inl none ∧ h' = sH b (fun i => if i = 1 then f else u i) g ∧ ∀ k : Int, 0 ≤ k → k < u 0 1 → f k.toNat = sAh (u 0) (oB a) k) 0 0 := by
  have h20 := hA.2.1.1
  have hJ := hA.1
  refine zMet.of (by decide) (Nat.le_of_ble_eq_true rfl) fun X K => ?_
  have hts : ∀ (f : Nat → Int) (i : Nat) (v : Int), tset (fun i => if i = 1 then f else u i) 1 i v = (fun j => if j = 1 then sup f i v else u j) := fun f i v => by
    funext j
    by_cases e : j = 1
    · subst e
      rw [tsP]
      rfl
    · rw [tsG e, if_neg e, if_neg e]
  have lm : ∀ (r m : Nat), m + r = 4 → ∀ f : Nat → Int, (∀ k : Int, 0 ≤ k → k < u 0 1 → f k.toNat = if sMc (u 0) k < m then sAh (u 0) (oB a) k else -1) → ∀ env, zsub env [(0, .ref b), (1, .int (iI a)), (2, .int (iI m))] → zW X (fun o h' => ∃ f : Nat → Int, o = .inl none ∧ h' = sH b (fun i => if i = 1 then f else u i) g ∧ ∀ k : Int, 0 ≤ k → k < u 0 1 → f k.toNat = sAh (u 0) (oB a) k) (sH b (fun i => if i = 1 then f else u i) g) 0 0 28 env [] := by
    intro r
    induction r with
    | zero =>
      intro m hm f hf env he
      refine zW.cut he ?_
      refine z_iload_n K dX2_link_28 rfl rfl ?_
      refine j_iconst K dX2_link_29 ?_
      refine j_icmp_ge (tgt := 98) K dX2_link_30 rfl (by omega) (by omega) (fun c_30 => ?_) (fun c_30 => ?_)
      · exact z_vret K (by omega) (by omega) (⟨f, rfl, rfl, fun k k0 k1 => by rw [hf k k0 k1, if_pos (by have := (hA.2.1.2 k k0 k1).2.1; omega)]⟩) dX2_link_98
      · exact absurd c_30 (by omega)
    | succ r ih =>
      intro m hm f0 hf0 env he
      refine zW.cut he ?_
      obtain ⟨o1, o2, o3, o4⟩ := hO m (by omega) (by omega)
      have hpos : ∀ k : Int, 0 ≤ k → k < u 0 1 → sMc (u 0) k = m → isPos (u 0) k (sPos (u 0) k) ∧ sPos (u 0) k < sOn (u 0) m := fun k k0 k1 e => by
        have := hO.pos ⟨k0, k1⟩ (hA.2.1.2 k k0 k1).2.1
        rw [e] at this
        exact this
      have lp : ∀ (q : Nat) (p : Int), 1 ≤ p → p + q = max 1 (sOn (u 0) m) → ∀ f : Nat → Int, (∀ k : Int, 0 ≤ k → k < u 0 1 → f k.toNat = if sMc (u 0) k < m ∨ (sMc (u 0) k = m ∧ sPos (u 0) k < p) then sAh (u 0) (oB a) k else -1) → ∀ env, zsub env [(0, .ref b), (1, .int (iI a)), (2, .int (iI m)), (3, .ref (b + 20 + ((m : Nat) : Int).toNat)), (4, .int (iI p))] → zW X (fun o h' => ∃ f : Nat → Int, o = .inl none ∧ h' = sH b (fun i => if i = 1 then f else u i) g ∧ ∀ k : Int, 0 ≤ k → k < u 0 1 → f k.toNat = sAh (u 0) (oB a) k) (sH b (fun i => if i = 1 then f else u i) g) 0 0 48 env [] := by
        intro q
        induction q with
        | zero =>
          intro p p1 hq f hf env he
          refine zW.cut he ?_
          have nx := ih (m + 1) (by omega) f (fun k k0 k1 => by
            rw [hf k k0 k1]
            by_cases e : sMc (u 0) k < m ∨ (sMc (u 0) k = m ∧ sPos (u 0) k < p)
            · rw [if_pos e, if_pos (by omega)]
            · rw [if_neg e, if_neg (fun z => e (by
                rcases (by omega : sMc (u 0) k < m ∨ sMc (u 0) k = m) with y | y
                · exact Or.inl y
                · have := (hpos k k0 k1 y).2
                  exact Or.inr ⟨y, by omega⟩))])
          (try dsimp only [sRel, sDue, sWt, sLen, sSeq, sJb, sMc, sDu, sFa, sIx, sSu, sBn, sBf, sBl, sOn, sOr] at *)
          refine z_iload K dX2_link_48 rfl ?_
          refine z_aload_n K dX2_link_50 rfl rfl rfl ?_
          refine z_get K fd_X2_167_3 (sH_ord ⟨by omega, by omega⟩) rfl dX2_link_51 ?_
          refine j_icmp_ge (tgt := 92) K dX2_link_54 rfl (by omega) (by show -2147483648 ≤ u 0 (179 + (m : Int)).toNat ∧ u 0 (179 + (m : Int)).toNat ≤ 2147483647; omega) (fun c_54 => ?_) (fun c_54 => ?_)
          · refine j_iinc K dX2_link_92 rfl (by decide) rfl ?_
            refine z_goto (tgt := 28) K dX2_link_95 rfl ?_
            exact nx _ ⟨rfl, rfl, rfl, trivial⟩
          · exact absurd (show p < u 0 (179 + (m : Int)).toNat from c_54) (by omega)
        | succ q ihq =>
          intro p p1 hq f hf env he
          refine zW.cut he ?_
          have hpn : p < sOn (u 0) m := by omega
          obtain ⟨q1, q2⟩ := o2 p (by omega) hpn
          have q3 := (o2 (p - 1) (by omega) (by omega)).1
          have hob := oB_bit a ha m (by omega)
          have skip : oB a m ≠ 0 → ∀ k : Int, 0 ≤ k → k < u 0 1 → f k.toNat = if sMc (u 0) k < (m + 1 : Nat) then sAh (u 0) (oB a) k else -1 := fun ho k k0 k1 => by
            rw [hf k k0 k1]
            by_cases e : sMc (u 0) k < m ∨ (sMc (u 0) k = m ∧ sPos (u 0) k < p)
            · rw [if_pos e, if_pos (by omega)]
            · rw [if_neg e]
              by_cases e2 : sMc (u 0) k < (m + 1 : Nat)
              · rw [if_pos e2]
                have e3 : sMc (u 0) k = m := by omega
                unfold sAh
                rw [if_pos (by rw [e3, Int.toNat_natCast]; exact ho)]
              · rw [if_neg e2]
          have nxo := fun ho => ih (m + 1) (by omega) f (skip ho)
          have step : oB a m = 0 → ∀ k : Int, 0 ≤ k → k < u 0 1 → sup f (sOr (u 0) m p).toNat (sOr (u 0) m (p - 1)) k.toNat = if sMc (u 0) k < m ∨ (sMc (u 0) k = m ∧ sPos (u 0) k < p + 1) then sAh (u 0) (oB a) k else -1 := fun ho k k0 k1 => by
            by_cases e : k = sOr (u 0) m p
            · have hk : sMc (u 0) k = m := by rw [e]; exact q2
              obtain ⟨⟨z0, z1, z2⟩, z3⟩ := hpos k k0 k1 hk
              rw [hk] at z1 z2
              have z4 : sPos (u 0) k = p := o3 _ _ (by omega) (by omega) (by omega) hpn (by rw [z1, e])
              rw [show k.toNat = (sOr (u 0) m p).toNat by rw [e], sup_s, if_pos (Or.inr ⟨hk, by omega⟩)]
              unfold sAh
              rw [if_neg (by rw [hk, Int.toNat_natCast]; exact fun z => z ho), if_neg (by omega), hk, z4]
            · rw [sup_n (by omega), hf k k0 k1]
              by_cases e2 : sMc (u 0) k < m ∨ (sMc (u 0) k = m ∧ sPos (u 0) k < p)
              · rw [if_pos e2, if_pos (by omega)]
              · rw [if_neg e2, if_neg (fun z => by
                  rcases z with z | ⟨z1, z2⟩
                  · exact e2 (Or.inl z)
                  · obtain ⟨⟨y0, y1, y2⟩, y3⟩ := hpos k k0 k1 z1
                    rw [z1] at y1
                    exact e (by rw [show p = sPos (u 0) k by omega, y1]))]
          have nxs := fun ho => ihq (p + 1) (by omega) (by omega) _ (step ho)
          (try dsimp only [sRel, sDue, sWt, sLen, sSeq, sJb, sMc, sDu, sFa, sIx, sSu, sBn, sBf, sBl, sOn, sOr] at *)
          refine z_iload K dX2_link_48 rfl ?_
          refine z_aload_n K dX2_link_50 rfl rfl rfl ?_
          refine z_get K fd_X2_167_3 (sH_ord ⟨by omega, by omega⟩) rfl dX2_link_51 ?_
          refine j_icmp_ge (tgt := 92) K dX2_link_54 rfl (by omega) (by show -2147483648 ≤ u 0 (179 + (m : Int)).toNat ∧ u 0 (179 + (m : Int)).toNat ≤ 2147483647; omega) (fun c_54 => ?_) (fun c_54 => ?_)
          · exact absurd (show u 0 (179 + (m : Int)).toNat ≤ p from c_54) (by omega)
          · refine z_iload_n K dX2_link_57 rfl rfl ?_
            refine z_iload_n K dX2_link_58 rfl rfl ?_
            refine z_ishr K dX2_link_59 ?_
            refine j_iconst K dX2_link_60 ?_
            refine z_iand K dX2_link_61 ?_
            rw [hob]
            refine j_if_ne (tgt := 92) K dX2_link_62 rfl (by have := oB_r a m; omega) (fun c_62 => ?_) (fun c_62 => ?_)
            · refine j_iinc K dX2_link_92 rfl (by decide) rfl ?_
              refine z_goto (tgt := 28) K dX2_link_95 rfl ?_
              exact nxo c_62 _ ⟨rfl, rfl, rfl, trivial⟩
            · refine z_aload_n K dX2_link_65 rfl rfl rfl ?_
              refine z_get K fd_X2_31_2 (sH_shop) rfl dX2_link_66 ?_
              refine z_aload_n K dX2_link_69 rfl rfl rfl ?_
              refine z_get K fd_X2_169_3 (sH_ord ⟨by omega, by omega⟩) rfl dX2_link_70 ?_
              refine z_iload K dX2_link_73 rfl ?_
              refine s_ldrow K (⟨by omega, by omega⟩) (by omega) (by omega) dX2_link_75 ?_
              refine z_aload_n K dX2_link_76 rfl rfl rfl ?_
              refine z_get K fd_X2_169_3 (sH_ord ⟨by omega, by omega⟩) rfl dX2_link_77 ?_
              refine z_iload K dX2_link_80 rfl ?_
              refine j_iconst K dX2_link_82 ?_
              refine j_isub K dX2_link_83 ?_
              refine s_ldrow K (⟨by omega, by omega⟩) (by omega) (by omega) dX2_link_84 ?_
              show zW _ _ _ _ _ _ _ (.int (iI (u 0 (183 + 5 * (m : Int) + (p - 1)).toNat)) :: .int (iI (u 0 (183 + 5 * (m : Int) + p).toNat)) :: _)
              refine j_istE K (sH_28) (by omega) (by omega) (by omega) dX2_link_85 (sH_t1) ?_
              rw [hts]
              refine j_iinc K dX2_link_86 rfl (by decide) rfl ?_
              refine z_goto (tgt := 48) K dX2_link_89 rfl ?_
              exact nxs c_62 _ ⟨rfl, rfl, rfl, rfl, rfl, trivial⟩
      have st := lp (max 1 (sOn (u 0) m) - 1).toNat 1 (by omega) (by omega) f0 (fun k k0 k1 => by
        rw [hf0 k k0 k1]
        by_cases e : sMc (u 0) k < m
        · rw [if_pos e, if_pos (Or.inl e)]
        · rw [if_neg e]
          by_cases e2 : sMc (u 0) k < m ∨ (sMc (u 0) k = m ∧ sPos (u 0) k < 1)
          · rw [if_pos e2]
            obtain ⟨y1, y2⟩ := e2.resolve_left e
            have := (hpos k k0 k1 y1).1.1
            unfold sAh
            by_cases z : oB a (sMc (u 0) k).toNat ≠ 0
            · rw [if_pos z]
            · rw [if_neg z, if_pos (by omega)]
          · rw [if_neg e2])
      refine z_iload_n K dX2_link_28 rfl rfl ?_
      refine j_iconst K dX2_link_29 ?_
      refine j_icmp_ge (tgt := 98) K dX2_link_30 rfl (by omega) (by omega) (fun c_30 => ?_) (fun c_30 => ?_)
      · exact absurd c_30 (by omega)
      · refine z_aload_n K dX2_link_33 rfl rfl rfl ?_
        refine z_get K fd_X2_28_2 (sH_shop) rfl dX2_link_34 ?_
        refine z_iload_n K dX2_link_37 rfl rfl ?_
        refine z_callV K (gt_ord ⟨by omega, by omega⟩) cV_X2_59_J2 (sH_ords) rfl rfl rfl (by omega) (by omega) (by omega) (Nat.le_of_ble_eq_true rfl) dX2_link_38 zrX (zrK ?_)
        refine z_castS K (sH_ord ⟨by omega, by omega⟩) rfl q246 dX2_link_41 ?_
        refine z_astore_n K dX2_link_44 rfl rfl (by decide) rfl ?_
        refine j_iconst K dX2_link_45 ?_
        refine z_istore K dX2_link_46 (by decide) rfl ?_
        exact st _ ⟨rfl, rfl, rfl, rfl, rfl, trivial⟩
  have l0 : ∀ (r k : Nat), (k : Int) + r = u 0 1 → ∀ f : Nat → Int, (∀ i : Nat, i < k → f i = -1) → ∀ env, zsub env [(0, .ref b), (1, .int (iI a)), (2, .int (iI k))] → zW X (fun o h' => ∃ f : Nat → Int, o = .inl none ∧ h' = sH b (fun i => if i = 1 then f else u i) g ∧ ∀ k : Int, 0 ≤ k → k < u 0 1 → f k.toNat = sAh (u 0) (oB a) k) (sH b (fun i => if i = 1 then f else u i) g) 0 0 2 env [] := by
    intro r
    induction r with
    | zero =>
      intro k hk f hf env he
      refine zW.cut he ?_
      have nx := lm 4 0 (by omega) f (fun i i0 i1 => by rw [hf i.toNat (by omega), if_neg (by have := (hA.2.1.2 i i0 i1).2.1; omega)])
      refine z_iload_n K dX2_link_2 rfl rfl ?_
      refine z_aload_n K dX2_link_3 rfl rfl rfl ?_
      refine z_get K fd_X2_18_2 (sH_shop) rfl dX2_link_4 ?_
      refine z_callV K (jl_size sH_ops) cV_X2_55_J2 (sH_ops) rfl rfl rfl (by omega) (by omega) (by omega) (Nat.le_of_ble_eq_true rfl) dX2_link_7 zrX (zrK ?_)
      refine j_icmp_ge (tgt := 26) K dX2_link_10 rfl (by omega) (by show -2147483648 ≤ u 0 1 ∧ u 0 1 ≤ 2147483647; omega) (fun c_10 => ?_) (fun c_10 => ?_)
      · refine j_iconst K dX2_link_26 ?_
        refine z_istore_n K dX2_link_27 rfl (by decide) rfl ?_
        exact nx _ ⟨rfl, rfl, rfl, trivial⟩
      · exact absurd (show (k : Int) < u 0 1 from c_10) (by omega)
    | succ r ih =>
      intro k hk f hf env he
      refine zW.cut he ?_
      have nx := ih (k + 1) (by omega) (sup f k (-1)) (fun i hi => by
        by_cases e : i = k
        · rw [e, sup_s]
        · rw [sup_n e]; exact hf i (by omega))
      refine z_iload_n K dX2_link_2 rfl rfl ?_
      refine z_aload_n K dX2_link_3 rfl rfl rfl ?_
      refine z_get K fd_X2_18_2 (sH_shop) rfl dX2_link_4 ?_
      refine z_callV K (jl_size sH_ops) cV_X2_55_J2 (sH_ops) rfl rfl rfl (by omega) (by omega) (by omega) (Nat.le_of_ble_eq_true rfl) dX2_link_7 zrX (zrK ?_)
      refine j_icmp_ge (tgt := 26) K dX2_link_10 rfl (by omega) (by show -2147483648 ≤ u 0 1 ∧ u 0 1 ≤ 2147483647; omega) (fun c_10 => ?_) (fun c_10 => ?_)
      · exact absurd (show u 0 1 ≤ (k : Int) from c_10) (by omega)
      · refine z_aload_n K dX2_link_13 rfl rfl rfl ?_
        refine z_get K fd_X2_31_2 (sH_shop) rfl dX2_link_14 ?_
        refine z_iload_n K dX2_link_17 rfl rfl ?_
        refine j_iconst K dX2_link_18 ?_
        refine j_istE K (sH_28) (by omega) (by omega) (by omega) dX2_link_19 (sH_t1) ?_
        rw [hts]
        refine j_iinc K dX2_link_20 rfl (by decide) rfl ?_
        refine z_goto (tgt := 2) K dX2_link_23 rfl ?_
        exact nx _ ⟨rfl, rfl, rfl, trivial⟩
  have l1 := l0 (u 0 1).toNat 0 (by omega) (u 1) (fun i hi => by omega)
  have e1 : (fun i => if i = 1 then u 1 else u i) = u := by
    funext i
    by_cases e : i = 1
    · rw [if_pos e, e]
    · rw [if_neg e]
  rw [e1] at l1
  refine j_iconst K dX2_link_0 ?_
  refine z_istore_n K dX2_link_1 rfl (by decide) rfl ?_
  exact l1 _ ⟨rfl, rfl, rfl, trivial⟩
end XSd

