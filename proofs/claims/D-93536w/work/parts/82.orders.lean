/-! ===== the component: orders copied and taken over ===== -/
theorem WfJ.lo {s s' : Nat → Int} (h : WfJ s) (e : ∀ i, i < 179 → s' i = s i) : WfJ s' := by
  obtain ⟨h1, h2⟩ := h
  rw [← e 0 (by omega)] at h1 h2
  refine ⟨h1, fun j j0 j1 => ?_⟩
  have a := h2 j j0 j1
  unfold sRel sDue sWt sLen at a ⊢
  rw [e _ (by omega), e _ (by omega), e _ (by omega), e _ (by omega)]
  exact a
/-- the rows of the first m machines are those of F -/
def sAl (s : Nat → Int) (F : Nat → Nat → Int) (m : Nat) : Nat → Int := fun i => if 183 ≤ i ∧ i < 183 + 5 * m then F ((i - 183) / 5) ((i - 183) % 5) else s i
theorem sAl_0 {s : Nat → Int} {F : Nat → Nat → Int} : sAl s F 0 = s := by funext i; unfold sAl; rw [if_neg (by omega)]
theorem sAl_lo {s : Nat → Int} {F : Nat → Nat → Int} {m i : Nat} (h : i < 183) : sAl s F m i = s i := if_neg (by omega)
theorem sAl_s {s : Nat → Int} {F : Nat → Nat → Int} {m : Nat} : sPut (sAl s F m) m 5 (F m) = sAl s F (m + 1) := by
  funext i
  unfold sPut sAl
  by_cases e : 183 + 5 * m ≤ i ∧ i < 183 + 5 * m + 5
  · rw [if_pos e, if_pos (by omega), show (i - 183) / 5 = m by omega, show (i - 183) % 5 = i - (183 + 5 * m) by omega]
  · rw [if_neg e]
    by_cases e2 : 183 ≤ i ∧ i < 183 + 5 * m
    · rw [if_pos e2, if_pos (by omega)]
    · rw [if_neg e2, if_neg (by omega)]
section XOr
variable {b : Nat} {u : tW} {g : zH} {N : Nat}
theorem zOb_or {h : zH} {o r : Nat} {n : Int} (e : h o = some (oO r n)) : zOb h o := Or.inl ⟨_, _, _, e, rfl, q2291⟩
/-- four orders of one's own: the names of the objects, of their rows -/
def fourO (g : zH) (f r : Nat → Nat) (s : Nat → Int) (F : Nat → Nat → Int) : Prop := ∀ m, m < 4 → g (f m) = some (oO (r m) (s (179 + m))) ∧ g (r m) = some (aI 5 (F m))
theorem x2_takeOrders {L : Nat} {c : Int} {f r : Nat → Nat} {F : Nat → Nat → Int} (hb : 1000 ≤ b) (hL : b + 72 ≤ L) (hJ : WfJ (u 0)) (hF : fourO (sH b u (lH L c 4 f g)) f r (u 0) F) (hfo : ∀ m, m < 4 → (f m < b ∨ b + 72 ≤ f m) ∧ (r m < b ∨ b + 72 ≤ r m)) :
    zMet yX2_takeOrders (ws_ yX2_takeOrders cX2_takeOrders 3 none) 4 [.ref b, .ref L] (sH b u (lH L c 4 f g)) (zVd (sH b (wRow u (sAl (u 0) F 4)) (lH L c 4 f g))) 0 0 := by
  refine zMet.of (by decide) (Nat.le_of_ble_eq_true rfl) fun X K => ?_
  have loop : ∀ (q m : Nat), m + q = 4 → ∀ env, zsub env [(0, .ref b), (1, .ref L), (2, .int (iI m))] → zW X (zVd (sH b (wRow u (sAl (u 0) F 4)) (lH L c 4 f g))) (sH b (wRow u (sAl (u 0) F m)) (lH L c 4 f g)) 0 0 2 env [] := by
    intro q
    induction q with
    | zero =>
      intro m hm env he
      obtain rfl : m = 4 := by omega
      refine zW.cut he ?_
      refine z_iload_n K dX2_takeOrders_2 rfl rfl ?_
      refine j_iconst K dX2_takeOrders_3 ?_
      refine j_icmp_ge (tgt := 35) K dX2_takeOrders_4 rfl (by omega) (by omega) (fun c_4 => ?_) (fun c_4 => ?_)
      · exact z_vret K (by omega) (by omega) (⟨rfl, rfl⟩) dX2_takeOrders_35
      · exact absurd c_4 (by omega)
    | succ q ih =>
      intro m hm env he
      refine zW.cut he ?_
      have nx := ih (m + 1) (by omega)
      clear ih
      obtain ⟨f1, f2⟩ := hF m (by omega)
      obtain ⟨f3, f4⟩ := hfo m (by omega)
      rw [sH_out f3] at f1
      rw [sH_out f4] at f2
      have e0 : wRow u (sAl (u 0) F m) 0 = sAl (u 0) F m := wRow_0
      have hor := sH_oN (b := b) (u := wRow u (sAl (u 0) F m)) (g := lH L c 4 f g) (m := m) (by omega)
      have hrw := sH_rN (b := b) (u := wRow u (sAl (u 0) F m)) (g := lH L c 4 f g) (m := m) (by omega)
      have htk := x3_take hor hrw ((sH_out f3).trans f1) ((sH_out f4).trans f2) (by omega) (by omega)
      have hwr : wRow (wRow u (sAl (u 0) F m)) (sAl (u 0) F (m + 1)) = wRow u (sAl (u 0) F (m + 1)) := by
        funext i
        by_cases z : i = 0
        · subst z; rw [wRow_0, wRow_0]
        · rw [wRow_f z, wRow_f z, wRow_f z]
      have hend : zup (zup (sH b (wRow u (sAl (u 0) F m)) (lH L c 4 f g)) (b + 24 + m) (aI 5 (F m))) (b + 20 + m) (oO (b + 24 + m) (u 0 (179 + m))) = sH b (wRow u (sAl (u 0) F (m + 1))) (lH L c 4 f g) := by
        rw [sH_rowF (by omega) (by rw [e0]; exact hJ.lo fun i hi => sAl_lo (by omega)), e0, sAl_s, hwr]
        exact sH_oszN (by rw [wRow_0, sAl_lo (by omega)]) (by omega)
      rw [hend] at htk
      have hgo := gt_ord (b := b) (u := wRow u (sAl (u 0) F m)) (g := lH L c 4 f g) (m := m) (by omega)
      have hgl := jl_getS (b := b) (u := wRow u (sAl (u 0) F m)) (g := g) (L := L) (c := c) (n := 4) (f := f) (i := m) hL (by omega) (by omega)
      rw [Int.toNat_natCast] at hgo hgl
      refine z_iload_n K dX2_takeOrders_2 rfl rfl ?_
      refine j_iconst K dX2_takeOrders_3 ?_
      refine j_icmp_ge (tgt := 35) K dX2_takeOrders_4 rfl (by omega) (by omega) (fun c_4 => ?_) (fun c_4 => ?_)
      · exact absurd c_4 (by omega)
      · refine z_aload_n K dX2_takeOrders_7 rfl rfl rfl ?_
        refine z_get K fd_X2_28_2 (sH_shop) rfl dX2_takeOrders_8 ?_
        refine z_iload_n K dX2_takeOrders_11 rfl rfl ?_
        refine z_callV K (hgo) cV_X2_59_J2 (sH_ords) rfl rfl rfl (by omega) (by omega) (by omega) (Nat.le_of_ble_eq_true rfl) dX2_takeOrders_12 zrX (zrK ?_)
        refine z_castS K (hor) rfl q246 dX2_takeOrders_15 ?_
        refine z_aload_n K dX2_takeOrders_18 rfl rfl rfl ?_
        refine z_iload_n K dX2_takeOrders_19 rfl rfl ?_
        refine z_callV K (hgl) cV_X2_59_J2 ((sH_l0 hL)) rfl rfl rfl (by omega) (by omega) (by omega) (Nat.le_of_ble_eq_true rfl) dX2_takeOrders_20 zrX (zrK ?_)
        refine z_castS K ((sH_out f3).trans f1) rfl q246 dX2_takeOrders_23 ?_
        refine z_callV K (htk) cV_X2_107_X3 (hor) rfl rfl rfl (by omega) (by omega) (by omega) (Nat.le_of_ble_eq_true rfl) dX2_takeOrders_26 zvX (zvK ?_)
        refine j_iinc K dX2_takeOrders_29 rfl (by decide) rfl ?_
        refine z_goto (tgt := 2) K dX2_takeOrders_32 rfl ?_
        exact nx _ ⟨rfl, rfl, rfl, trivial⟩
  have go := loop 4 0 (by omega)
  rw [sAl_0] at go
  have e : wRow u (u 0) = u := by funext i; by_cases z : i = 0; subst z; exact wRow_0; exact wRow_f z
  rw [e] at go
  have go : ∀ env, zsub env [(0, .ref b), (1, .ref L), (2, .int (iI 0))] → zW X (zVd (sH b (wRow u (sAl (u 0) F 4)) (lH L c 4 f g))) (sH b u (lH L c 4 f g)) 0 0 2 env [] := go
  clear loop
  refine j_iconst K dX2_takeOrders_0 ?_
  refine z_istore_n K dX2_takeOrders_1 rfl (by decide) rfl ?_
  exact go _ ⟨rfl, rfl, rfl, trivial⟩
theorem tO_lH {L M : Nat} {c k : Int} {n : Nat} {f : Nat → Nat} {F : Nat → Int} {g : zH} (h : L + 4 ≤ M) : tO M k F (lH L c n f g) = lH L c n f (tO M k F g) := by
  unfold tO
  rw [lH_up (by omega), lH_up (by omega)]
theorem x2_copyOrders (hb : 1000 ≤ b) (hN : b + 72 ≤ N) (hAm : Am g) (hTp : zTop g N) :
    zMet yX2_copyOrders (ws_ yX2_copyOrders cX2_copyOrders 3 (some (.object "java/util/ArrayList"))) 8 [.ref b] (sH b u g) (fun z h' => ∃ g', z = .inl (some (.ref N)) ∧ h' = sH b u (lH N 4 4 (fun i => N + 4 + 2 * i) g') ∧ fourO g' (fun i => N + 4 + 2 * i) (fun i => N + 5 + 2 * i) (u 0) (fun m q => u 0 (183 + 5 * m + q)) ∧ zExt N g g' ∧ zTop g' (N + 12)) 13 120 := by
  refine zMet.of (by decide) (Nat.le_of_ble_eq_true rfl) fun X K => ?_
  generalize hQ : (fun (z : zO) (h' : zH) => ∃ g', z = .inl (some (.ref N)) ∧ h' = sH b u (lH N 4 4 (fun i => N + 4 + 2 * i) g') ∧ fourO g' (fun i => N + 4 + 2 * i) (fun i => N + 5 + 2 * i) (u 0) (fun m q => u 0 (183 + 5 * m + q)) ∧ zExt N g g' ∧ zTop g' (N + 12)) = Q
  have hq : ∀ g', fourO g' (fun i => N + 4 + 2 * i) (fun i => N + 5 + 2 * i) (u 0) (fun m q => u 0 (183 + 5 * m + q)) → zExt N g g' → zTop g' (N + 12) → Q (.inl (some (.ref N))) (sH b u (lH N 4 4 (fun i => N + 4 + 2 * i) g')) := fun g' a1 a3 a4 => by rw [← hQ]; exact ⟨g', rfl, rfl, a1, a3, a4⟩
  clear hQ
  have loop : ∀ (q m : Nat), m + q = 4 → ∀ g' : zH, (∀ i, i < m → g' (N + 4 + 2 * i) = some (oO (N + 5 + 2 * i) (u 0 (179 + i))) ∧ g' (N + 5 + 2 * i) = some (aI 5 fun p => u 0 (183 + 5 * i + p))) → zExt N g g' → zTop g' (N + 4 + 2 * m) → ∀ env, zsub env [(0, .ref b), (1, .ref N), (2, .int (iI m))] → zW X Q (sH b u (lH N m m (fun i => N + 4 + 2 * i) g')) (1 + 3 * m) (3 + 29 * m) 10 env [] := by
    intro q
    induction q with
    | zero =>
      intro m hm g' h4 hx ht env he
      obtain rfl : m = 4 := by omega
      refine zW.cut he ?_
      have hfin := hq g' h4 hx ht
      refine z_iload_n K dX2_copyOrders_10 rfl rfl ?_
      refine j_iconst K dX2_copyOrders_11 ?_
      refine j_icmp_ge (tgt := 55) K dX2_copyOrders_12 rfl (by omega) (by omega) (fun c_12 => ?_) (fun c_12 => ?_)
      · refine z_aload_n K dX2_copyOrders_55 rfl rfl rfl ?_
        exact z_aret K (by simp) rfl (by omega) (by omega) (hfin) dX2_copyOrders_56
      · exact absurd c_12 (by omega)
    | succ q ih =>
      intro m hm g' h4 hx ht env he
      refine zW.cut he ?_
      have htl : zTop (lH N m m (fun i => N + 4 + 2 * i) g') (N + 4 + 2 * m) := fun i hi => (lH_o (by omega)).trans (ht i hi)
      have hnew := x3_newS (b := b) (u := u) (g := lH N m m (fun i => N + 4 + 2 * i) g') (N := N + 4 + 2 * m) htl (by omega) hb
      rw [tO_lH (by omega)] at hnew
      have hA1 : Am (tO (N + 4 + 2 * m) 0 (fun _ => 0) g') := (hAm.ext hx (by omega)).ext (N := N) (fun i hi => tO_o (by omega)) (by omega)
      have ho1 : ∀ i, i ≤ m → sH b u (lH N m m (fun i => N + 4 + 2 * i) (tO (N + 4 + 2 * m) 0 (fun _ => 0) g')) (N + 4 + 2 * i) = if i = m then some (oO (N + 4 + 2 * m + 1) 0) else some (oO (N + 5 + 2 * i) (u 0 (179 + i))) := fun i hi => by
        rw [sH_out (by omega), lH_o (by omega)]
        split
        · rename_i e; subst e; exact tO_0
        · rw [tO_o (by omega)]; exact (h4 i (by omega)).1
      have hadd := jl_addS (b := b) (u := u) (g := tO (N + 4 + 2 * m) 0 (fun _ => 0) g') (L := N) (c := m) (n := m) (f := fun i => N + 4 + 2 * i) (x := N + 4 + 2 * m) hA1 hN hb (by omega) (by have := ho1 m (by omega); rw [if_pos rfl] at this; exact zOb_or this) (fun i hi => by have := ho1 i (by omega); rw [if_neg (by omega)] at this; exact zOb_or this)
      rw [lH_congr (f' := fun i => N + 4 + 2 * i) (n := m + 1) (fun i hi => by split; rename_i e; rw [e]; rfl)] at hadd
      have hget := jl_getS (b := b) (u := u) (g := tO (N + 4 + 2 * m) 0 (fun _ => 0) g') (L := N) (c := (m : Int) + 1) (n := m + 1) (f := fun i => N + 4 + 2 * i) (i := m) hN (by omega) (by omega)
      rw [Int.toNat_natCast] at hget
      have hor := sH_oN (b := b) (u := u) (g := lH N ((m : Int) + 1) (m + 1) (fun i => N + 4 + 2 * i) (tO (N + 4 + 2 * m) 0 (fun _ => 0) g')) (m := m) (by omega)
      have hrw := sH_rN (b := b) (u := u) (g := lH N ((m : Int) + 1) (m + 1) (fun i => N + 4 + 2 * i) (tO (N + 4 + 2 * m) 0 (fun _ => 0) g')) (m := m) (by omega)
      have hw0 : sH b u (lH N ((m : Int) + 1) (m + 1) (fun i => N + 4 + 2 * i) (tO (N + 4 + 2 * m) 0 (fun _ => 0) g')) (N + 4 + 2 * m) = some (oO (N + 4 + 2 * m + 1) 0) := by rw [sH_out (by omega), lH_o (by omega)]; exact tO_0
      have hw1 : sH b u (lH N ((m : Int) + 1) (m + 1) (fun i => N + 4 + 2 * i) (tO (N + 4 + 2 * m) 0 (fun _ => 0) g')) (N + 4 + 2 * m + 1) = some (aI 5 fun _ => 0) := by rw [sH_out (by omega), lH_o (by omega)]; exact tO_1
      have htk := x3_take hw0 hw1 hor hrw (by omega) (by omega)
      rw [sH_upo (by omega), sH_upo (by omega), lH_up (by omega), lH_up (by omega), tO_put] at htk
      have hgo := gt_ord (b := b) (u := u) (g := lH N ((m : Int) + 1) (m + 1) (fun i => N + 4 + 2 * i) (tO (N + 4 + 2 * m) 0 (fun _ => 0) g')) (m := m) (by omega)
      rw [Int.toNat_natCast] at hgo
      have nx := ih (m + 1) (by omega) (tO (N + 4 + 2 * m) (u 0 (179 + m)) (fun p => u 0 (183 + 5 * m + p)) g') (fun i hi => by
        by_cases e : i = m
        · subst e; rw [show N + 5 + 2 * i = N + 4 + 2 * i + 1 by omega]; exact ⟨tO_0, tO_1⟩
        · rw [tO_o (by omega), tO_o (by omega)]; exact h4 i (by omega)) (fun i hi => (tO_o (by omega)).trans (hx i hi)) (fun i hi => (tO_o (by omega)).trans (ht i (by omega)))
      clear ih
      refine z_iload_n K dX2_copyOrders_10 rfl rfl ?_
      refine j_iconst K dX2_copyOrders_11 ?_
      refine j_icmp_ge (tgt := 55) K dX2_copyOrders_12 rfl (by omega) (by omega) (fun c_12 => ?_) (fun c_12 => ?_)
      · exact absurd c_12 (by omega)
      · refine z_aload_n K dX2_copyOrders_15 rfl rfl rfl ?_
        refine z_new K (N + 4 + 2 * m) nw_X2_51 ((sH_out (by omega)).trans (htl _ (Nat.le_refl _))) (by omega) (by omega) (by omega) dX2_copyOrders_16 ?_
        refine z_dup K dX2_copyOrders_19 rfl ?_
        refine z_cIN (fs := []) K (hnew) cI_X2_53 rfl rfl (by omega) (by omega) (by omega) (Nat.le_of_ble_eq_true rfl) dX2_copyOrders_20 zvX (zvK ?_)
        refine z_callV K (hadd) cV_X2_47_J2 ((sH_l0 hN)) rfl rfl rfl (by omega) (by omega) (by omega) (Nat.le_of_ble_eq_true rfl) dX2_copyOrders_23 zrX (zrK ?_)
        refine z_pop K dX2_copyOrders_26 rfl ?_
        refine z_aload_n K dX2_copyOrders_27 rfl rfl rfl ?_
        refine z_iload_n K dX2_copyOrders_28 rfl rfl ?_
        refine z_callV K (hget) cV_X2_59_J2 ((sH_l0 hN)) rfl rfl rfl (by omega) (by omega) (by omega) (Nat.le_of_ble_eq_true rfl) dX2_copyOrders_29 zrX (zrK ?_)
        refine z_castS K (hw0) rfl q246 dX2_copyOrders_32 ?_
        refine z_aload_n K dX2_copyOrders_35 rfl rfl rfl ?_
        refine z_get K fd_X2_28_2 (sH_shop) rfl dX2_copyOrders_36 ?_
        refine z_iload_n K dX2_copyOrders_39 rfl rfl ?_
        refine z_callV K (hgo) cV_X2_59_J2 (sH_ords) rfl rfl rfl (by omega) (by omega) (by omega) (Nat.le_of_ble_eq_true rfl) dX2_copyOrders_40 zrX (zrK ?_)
        refine z_castS K (hor) rfl q246 dX2_copyOrders_43 ?_
        refine z_callV K (htk) cV_X2_107_X3 (hw0) rfl rfl rfl (by omega) (by omega) (by omega) (Nat.le_of_ble_eq_true rfl) dX2_copyOrders_46 zvX (zvK ?_)
        refine j_iinc K dX2_copyOrders_49 rfl (by decide) rfl ?_
        refine z_goto (tgt := 10) K dX2_copyOrders_52 rfl ?_
        exact zW.widen (by omega) (by omega) (nx _ ⟨rfl, rfl, rfl, trivial⟩)
  have hnl := jl_newS (b := b) (u := u) (g := g) (L := N) (f := fun i => N + 4 + 2 * i) hAm hTp hN hb
  have go := loop 4 0 (by omega) g (fun i hi => by omega) zExt.rf (fun i hi => hTp i (by omega))
  have go : ∀ env, zsub env [(0, .ref b), (1, .ref N), (2, .int (iI 0))] → zW X Q (sH b u (lH N 0 0 (fun i => N + 4 + 2 * i) g)) 1 3 10 env [] := go
  clear loop
  refine z_new K (N) nw_X2_9 ((sH_out (by omega)).trans (hTp N (Nat.le_refl N))) (by omega) (by omega) (by omega) dX2_copyOrders_0 ?_
  refine z_dup K dX2_copyOrders_3 rfl ?_
  refine z_cI (fs := []) K (hnl) cI_X2_11 rfl rfl (by omega) (by omega) (by omega) (Nat.le_of_ble_eq_true rfl) dX2_copyOrders_4 zvX (zvK ?_)
  refine z_astore_n K dX2_copyOrders_7 rfl rfl (by decide) rfl ?_
  refine j_iconst K dX2_copyOrders_8 ?_
  refine z_istore_n K dX2_copyOrders_9 rfl (by decide) rfl ?_
  exact zW.widen (by omega) (by omega) (go _ ⟨rfl, rfl, rfl, trivial⟩)
end XOr

