/-! ===== the reference: shiftBottlenecks ===== -/
def optR (s o : Nat → Int) (m : Nat) (bm : Int) (s' : Nat → Int) : Prop := ∃ bo, bOf s o m (sOn s m).toNat (fun _ => True) bm bo ∧ s' = sPut s m (sOn s m).toNat bo
def wrR (s o : Nat → Int) : Nat → Int → Int → Prop
  | 0, a, g => a = -1 ∧ g = -1
  | m + 1, a, g => ∃ a0 g0, wrR s o m a0 g0 ∧ ((o m = 0 ∧ a = a0 ∧ g = g0) ∨ (o m ≠ 0 ∧ ∃ bm s', optR s (sup o m 0) m bm s' ∧ a = (if g0 < bm then (m : Int) else a0) ∧ g = max g0 bm))
def reR (o cl : Nat → Int) : Nat → (Nat → Int) → (Nat → Int) → Prop
  | 0, s, s' => s' = s
  | k + 1, s, s' => ∃ s1 bm, reR o cl k s s1 ∧ optR s1 o (cl k).toNat bm s'
def shR (s0 : Nat → Int) : Nat → (Nat → Int) → (Nat → Int) → (Nat → Int) → Prop
  | 0, s, o, _ => s = s0 ∧ ∀ m : Nat, m < 4 → o m = 1
  | n + 1, s, o, cl => ∃ s1 o1 cl1 a g bm s2, shR s0 n s1 o1 cl1 ∧ wrR s1 o1 4 a g ∧ o = sup o1 a.toNat 0 ∧ optR s1 o a.toNat bm s2 ∧ reR o cl1 n s2 s ∧ cl = sup cl1 n a
/-- the world between the searches -/
def shP (w : tW) (s o cl : Nat → Int) (W : tW) : Prop := fbP s o W ∧ W 8 = cl ∧ W 3 0 = 0 ∧ Fr [0, 3, 8, 11, 12, 13, 20, 21, 23] w W
/-- what holds of row and machines -/
def shI (s o : Nat → Int) : Prop := WfA s ∧ WfO s ∧ ACy s o ∧ ∀ m : Nat, m < 4 → 0 ≤ o m ∧ o m ≤ 1
def shQ (w : tW) (v : Int) (w' : tW) : Prop := ∃ s o cl rd st, shR (w 0) 4 s o cl ∧ shI s o ∧ (∀ m : Nat, m < 4 → o m = 0) ∧ Tp s o (-1) 0 rd st ∧ Tq s o st ∧ v = mkS s st ∧ w' 0 = s ∧ w' 13 = o ∧ w' 8 = cl ∧ w' 9 0 = 1 ∧ w' 3 0 = 0 ∧ (∀ k : Nat, k < 4 → 0 ≤ cl k ∧ cl k ≤ 3) ∧ Fr [0, 3, 8, 9, 11, 12, 13, 20, 21, 23] w w'
def shJ (s o : Nat → Int) : Prop := WfA s ∧ WfO s ∧ ∀ m : Nat, m < 4 → 0 ≤ o m ∧ o m ≤ 1
theorem shI.j {s o : Nat → Int} (h : shI s o) : shJ s o := ⟨h.1, h.2.1, h.2.2.2⟩
theorem fbQ.opt {s o : Nat → Int} (h : shJ s o) {m : Nat} (hm : m ≤ 3) {w W : tW} (q : fbQ s o m (sOn s m).toNat w W) {c : Nat → Int} (hc : isPm s m (sOn s m).toNat c) (ha : ACy (sPut s m (sOn s m).toNat c) o) : 0 ≤ W 21 0 ∧ isPm s m (sOn s m).toNat (W 20) ∧ optR s o m (W 21 0) (sPut s m (sOn s m).toNat (W 20)) ∧ shI (sPut s m (sOn s m).toNat (W 20)) o := by
  obtain ⟨hA, hO, ho⟩ := h
  have h5 := (hO m (by omega) (by omega)).1
  have hn : sOn s m = (sOn s m).toNat := by omega
  obtain ⟨z1, z2, z3⟩ := q.2.2.2.own hA hO hm hn hc ha
  obtain ⟨wA, wO⟩ := sPut_W hA hO hm hn z2
  exact ⟨z1, z2, ⟨_, q.2.2.2, rfl⟩, wA, wO, z3.ac wA wO z1, ho⟩
/-- searching, then taking -/
theorem tw_fb {s o : Nat → Int} (h : shJ s o) {m : Nat} (hm : m ≤ 3) {W : tW} (hP : fbP s o W) : tMv yX4_findBest cX4_findBest 4 13 [.int (iI m)] W (fbQ s o m (sOn s m).toNat W) := by
  have h5 := (h.2.1 m (by omega) (by omega)).1
  exact tw_findBest h.1 h.2.1 hm (by omega) h.2.2 hP
theorem tw_tb {s o : Nat → Int} (h : shJ s o) {m : Nat} (hm : m ≤ 3) {W : tW} (h0 : W 0 = s) (z : isPm s m (sOn s m).toNat (W 20)) : tMi yX4_takeBest cX4_takeBest 4 .int 3 [.int (iI m)] W (fun v w' => v = dif s m (W 20) (sOn s m).toNat ∧ w' = wF W 0 (sPut s m (sOn s m).toNat (W 20))) := by
  have h5 := (h.2.1 m (by omega) (by omega)).1
  have h20 := h.1.2.1.1
  exact tw_takeBest h0 hm (by omega) (by omega) (WfO.rr h.1 h.2.1 hm (by omega)) (fun i hi => ⟨(z.1 i hi).1.1, by have := (z.1 i hi).1.2; omega⟩)
theorem shP.fb {w : tW} {s o cl : Nat → Int} {W W' : tW} (h : shP w s o cl W) {m n : Nat} (q : fbQ s o m n W W') : shP w s o cl W' := by
  obtain ⟨⟨a1, a2, a3, a4, a5⟩, b, c, d⟩ := h
  obtain ⟨q1, q2, -⟩ := q
  refine ⟨⟨q1, by rw [q2 13 (by decide)]; exact a2, by rw [q2 14 (by decide)]; exact a3, by rw [q2 15 (by decide)]; exact a4, by rw [q2 22 (by decide)]; exact a5⟩, by rw [q2 8 (by decide)]; exact b, by rw [q2 3 (by decide)]; exact c, fun f hf => ?_⟩
  rw [q2 f (fun e => hf (by revert e; simp; omega))]
  exact d f hf
theorem shP.tb {w : tW} {s o cl s' : Nat → Int} {W : tW} (h : shP w s o cl W) : shP w s' o cl (wF W 0 s') := by
  obtain ⟨⟨a1, a2, a3, a4, a5⟩, b, c, d⟩ := h
  refine ⟨⟨wF_s, a2, a3, a4, a5⟩, b, c, fun f hf => ?_⟩
  rw [wF_n (fun e => hf (by rw [e]; decide))]
  exact d f hf
theorem shP.op {w : tW} {s o cl : Nat → Int} {W : tW} (h : shP w s o cl W) {m : Nat} {v : Int} : shP w s (sup o m v) cl (tset W 13 m v) := by
  obtain ⟨⟨a1, a2, a3, a4, a5⟩, b, c, d⟩ := h
  refine ⟨⟨a1, by rw [tset_row, a2], a3, a4, a5⟩, b, c, fun f hf => ?_⟩
  rw [tset_g (fun e => hf (by rw [e]; decide))]
  exact d f hf
theorem shP.cl {w : tW} {s o cl : Nat → Int} {W : tW} (h : shP w s o cl W) {m : Nat} {v : Int} : shP w s o (sup cl m v) (tset W 8 m v) := by
  obtain ⟨⟨a1, a2, a3, a4, a5⟩, b, c, d⟩ := h
  refine ⟨⟨a1, a2, a3, a4, a5⟩, by rw [tset_row, b], c, fun f hf => ?_⟩
  rw [tset_g (fun e => hf (by rw [e]; decide))]
  exact d f hf
theorem shJ.cl {s o : Nat → Int} (h : shJ s o) {m : Nat} : ∀ k : Nat, k < 4 → 0 ≤ sup o m 0 k ∧ sup o m 0 k ≤ 1 := fun k hk => by
  by_cases q : k = m
  · rw [q, sup_s]; omega
  · rw [sup_n q]; exact h.2.2 k hk
theorem sup_r {o : Nat → Int} {m : Nat} {v u : Int} (h : o m = v) : sup (sup o m u) m v = o := by
  funext i
  by_cases q : i = m
  · rw [q, sup_s, h]
  · rw [sup_n q, sup_n q]
theorem ACy.opn {s o o' : Nat → Int} (hA : WfA s) (h : ACy s o) (ho : ∀ m : Nat, m < 4 → o' m ≠ 0) : ACy s o' := by
  obtain ⟨r, hr⟩ := h
  refine ⟨r, fun k k0 k1 => ⟨(hr k k0 k1).1, (hr k k0 k1).2.1, fun q => absurd ?_ q⟩⟩
  have := (hA.2.1.2 k k0 k1).2.1
  unfold sAh
  rw [if_pos (ho _ (by omega))]
theorem tw_shiftBottlenecks {w : tW} (hI : TI w) (ha : ACy (w 0) (w 13)) : tMi yX4_shiftBottlenecks cX4_shiftBottlenecks 6 .int 14 [] w (shQ w) := by
  refine zMet.of (by decide) (Nat.le_of_ble_eq_true rfl) fun X K => ?_
  have hA := hI.1
  have hO := hI.2.1
  have lre : ∀ (n : Nat) (a : Int) (o cl s2 : Nat → Int), n < 4 → 0 ≤ a → a ≤ 3 → (∀ k : Nat, k < n → 0 ≤ cl k ∧ cl k ≤ 3) → (∀ s W, reR o cl n s2 s → shI s o → shP w s o (sup cl n a) W → ∀ env, zsub env [(0, .ref 1000), (1, .int (iI ((n : Int) + 1)))] → zW X (zPi fun x h' => ∃ v9 w', x = iI v9 ∧ h' = tH w' ∧ shQ w v9 w') (tH W) 0 0 27 env []) → ∀ (r k : Nat), k + r = n → ∀ (s : Nat → Int) (ch : Int) (W : tW), reR o cl k s2 s → shI s o → shP w s o cl W → ∀ env, zsub env [(0, .ref 1000), (1, .int (iI n)), (2, .int (iI a)), (4, .int (iI ch)), (5, .int (iI k))] → zW X (zPi fun x h' => ∃ v9 w', x = iI v9 ∧ h' = tH w' ∧ shQ w v9 w') (tH W) 0 0 129 env [] := by
    intro n a o cl s2 hn4 a0 a3 hcl kont r
    induction r with
    | zero =>
      intro k hk s ch W hR hs hP env he
      obtain rfl : k = n := by omega
      refine zW.cut he ?_
      have kk := kont s _ hR hs hP.cl
      clear kont
      refine z_iload K dX4_shiftBottlenecks_129 rfl ?_
      refine z_iload_n K dX4_shiftBottlenecks_131 rfl rfl ?_
      refine j_icmp_ge (tgt := 168) K dX4_shiftBottlenecks_132 rfl (by omega) (by omega) (fun c_132 => ?_) (fun c_132 => ?_)
      · refine z_aload_n K dX4_shiftBottlenecks_168 rfl rfl rfl ?_
        refine t_geta K fd_X4_23_0 rfl dX4_shiftBottlenecks_169 ?_
        refine z_iload_n K dX4_shiftBottlenecks_172 rfl rfl ?_
        refine z_iload_n K dX4_shiftBottlenecks_173 rfl rfl ?_
        refine t_ist K 8 4 rfl rfl rfl (by omega) (by omega) rfl dX4_shiftBottlenecks_174 ?_
        rw [Int.toNat_natCast]
        refine j_iinc K dX4_shiftBottlenecks_175 rfl (by decide) rfl ?_
        refine z_goto (tgt := 27) K dX4_shiftBottlenecks_178 rfl ?_
        exact kk _ ⟨rfl, rfl, trivial⟩
      · exact absurd c_132 (by omega)
    | succ r ih =>
      intro k hk s ch W hR hs hP env he
      refine zW.cut he ?_
      have hck := hcl k (by omega)
      have e8 : W 8 k = cl k := by rw [hP.2.1]
      have em : (((cl k).toNat : Nat) : Int) = cl k := by omega
      have r1 := tw_fb hs.j (m := (cl k).toNat) (by omega) hP.1
      rw [em] at r1
      have h5 := (hs.2.1 _ hck.1 hck.2).1
      have hnn : sOn s (cl k).toNat = (sOn s (cl k).toNat).toNat := by rw [em]; omega
      have r2 := fun W' (q : fbQ s o (cl k).toNat (sOn s (cl k).toNat).toNat W W') => fbQ.opt hs.j (by omega) q (isPm.own hs.2.1 (by omega) hnn) (by rw [sPut_i]; exact hs.2.2.1)
      have nx := fun W' ch (q : fbQ s o (cl k).toNat (sOn s (cl k).toNat).toNat W W') => ih (k + 1) (by omega) _ ch (wF W' 0 (sPut s (cl k).toNat (sOn s (cl k).toNat).toNat (W' 20))) ⟨s, _, hR, (r2 W' q).2.2.1⟩ (r2 W' q).2.2.2 (hP.fb q).tb
      rw [em] at r2 nx
      have r3 := fun W' (q : fbQ s o (cl k).toNat (sOn s (cl k)).toNat W W') => tw_tb hs.j (m := (cl k).toNat) (by omega) q.1 (by rw [em]; exact (r2 W' q).2.1)
      rw [em] at r3
      clear ih kont
      refine z_iload K dX4_shiftBottlenecks_129 rfl ?_
      refine z_iload_n K dX4_shiftBottlenecks_131 rfl rfl ?_
      refine j_icmp_ge (tgt := 168) K dX4_shiftBottlenecks_132 rfl (by omega) (by omega) (fun c_132 => ?_) (fun c_132 => ?_)
      · exact absurd c_132 (by omega)
      · refine z_aload_n K dX4_shiftBottlenecks_135 rfl rfl rfl ?_
        refine z_aload_n K dX4_shiftBottlenecks_136 rfl rfl rfl ?_
        refine t_geta K fd_X4_23_0 rfl dX4_shiftBottlenecks_137 ?_
        refine z_iload K dX4_shiftBottlenecks_140 rfl ?_
        refine t_ild K 8 4 rfl rfl rfl (by omega) (by omega) rfl dX4_shiftBottlenecks_142 ?_
        rw [Int.toNat_natCast, e8]
        refine t_callv K (r1) cV_X4_252_X4 rfl rfl (by decide) (Nat.le_of_ble_eq_true rfl) (Nat.le_refl _) (Nat.le_refl _) dX4_shiftBottlenecks_143 ?_
        rintro W' hQ
        refine z_iload K dX4_shiftBottlenecks_146 rfl ?_
        refine z_aload_n K dX4_shiftBottlenecks_148 rfl rfl rfl ?_
        refine z_aload_n K dX4_shiftBottlenecks_149 rfl rfl rfl ?_
        refine t_geta K fd_X4_23_0 rfl dX4_shiftBottlenecks_150 ?_
        refine z_iload K dX4_shiftBottlenecks_153 rfl ?_
        refine t_ild K 8 4 rfl rfl rfl (by omega) (by omega) rfl dX4_shiftBottlenecks_155 ?_
        rw [show W' 8 = W 8 from hQ.2.1 8 (by decide), Int.toNat_natCast, e8]
        refine t_calli K (r3 W' hQ) cV_X4_255_X4 rfl rfl (by decide) (Nat.le_of_ble_eq_true rfl) (Nat.le_refl _) (Nat.le_refl _) dX4_shiftBottlenecks_156 ?_
        rintro v1 w2 ⟨hv, hw⟩
        subst hw
        refine j_iadd K dX4_shiftBottlenecks_159 ?_
        refine z_istore K dX4_shiftBottlenecks_160 (by decide) rfl ?_
        refine j_iinc K dX4_shiftBottlenecks_162 rfl (by decide) rfl ?_
        refine z_goto (tgt := 129) K dX4_shiftBottlenecks_165 rfl ?_
        exact nx W' _ hQ _ ⟨rfl, rfl, rfl, rfl, rfl, trivial⟩
  have lwr : ∀ (n : Nat) (s o cl : Nat → Int), shI s o → (∃ m : Nat, m < 4 ∧ o m ≠ 0) → (∀ (a g : Int) (W : tW), wrR s o 4 a g → 0 ≤ a → a ≤ 3 → o a.toNat = 1 → shP w s o cl W → ∀ env, zsub env [(0, .ref 1000), (1, .int (iI n)), (2, .int (iI a))] → zW X (zPi fun x h' => ∃ v9 w', x = iI v9 ∧ h' = tH w' ∧ shQ w v9 w') (tH W) 0 0 107 env []) → ∀ (r m : Nat), m + r = 4 → ∀ (a g : Int) (W : tW), wrR s o m a g → ((a = -1 ∧ g = -1 ∧ ∀ i : Nat, i < m → o i = 0) ∨ (0 ≤ a ∧ a < m ∧ o a.toNat = 1 ∧ 0 ≤ g ∧ g ≤ 5000)) → shP w s o cl W → ∀ env, zsub env [(0, .ref 1000), (1, .int (iI n)), (2, .int (iI a)), (3, .int (iI g)), (4, .int (iI m))] → zW X (zPi fun x h' => ∃ v9 w', x = iI v9 ∧ h' = tH w' ∧ shQ w v9 w') (tH W) 0 0 39 env [] := by
    intro n s o cl hs hop kont r
    induction r with
    | zero =>
      intro m hm a g W hR hag hP env he
      obtain rfl : m = 4 := by omega
      refine zW.cut he ?_
      have h4 : 0 ≤ a ∧ a ≤ 3 ∧ o a.toNat = 1 := by
        rcases hag with ⟨-, -, z⟩ | ⟨z1, z2, z3, -⟩
        · obtain ⟨i, hi, hoi⟩ := hop
          exact absurd (z i hi) hoi
        · exact ⟨z1, by omega, z3⟩
      have kk := kont a g W hR h4.1 h4.2.1 h4.2.2 hP
      refine z_iload K dX4_shiftBottlenecks_39 rfl ?_
      refine j_iconst K dX4_shiftBottlenecks_41 ?_
      refine j_icmp_ge (tgt := 107) K dX4_shiftBottlenecks_42 rfl (by omega) (by omega) (fun c_42 => ?_) (fun c_42 => ?_)
      · exact kk _ ⟨rfl, rfl, rfl, trivial⟩
      · exact absurd c_42 (by omega)
    | succ r ih =>
      intro m hm a g W hR hag hP env he
      refine zW.cut he ?_
      have hom := hs.2.2.2 m (by omega)
      have e13 : W 13 m = o m := by rw [hP.1.2.1]
      have skip : o m = 0 → ∀ env, zsub env [(0, .ref 1000), (1, .int (iI n)), (2, .int (iI a)), (3, .int (iI g)), (4, .int (iI ((m : Int) + 1)))] → zW X (zPi fun x h' => ∃ v9 w', x = iI v9 ∧ h' = tH w' ∧ shQ w v9 w') (tH W) 0 0 39 env [] := fun h0 env he => ih (m + 1) (by omega) a g W ⟨a, g, hR, Or.inl ⟨h0, rfl, rfl⟩⟩ (hag.imp (fun z => ⟨z.1, z.2.1, fun i hi => by rcases (by omega : i < m ∨ i = m) with y | y; (exact z.2.2 i y); (rw [y]; exact h0)⟩) (fun z => ⟨z.1, by omega, z.2.2⟩)) hP env he
      have hJ : shJ s (sup o m 0) := ⟨hs.1, hs.2.1, hs.j.cl⟩
      have hP1 : shP w s (sup o m 0) cl (tset W 13 m 0) := hP.op
      have r1 := tw_fb hJ (m := m) (by omega) hP1.1
      have h5 := (hs.2.1 m (by omega) (by omega)).1
      obtain ⟨c, c1, c2⟩ := feas hs.1 hs.2.1 (m := m) (n := (sOn s m).toNat) (by omega) (by omega) hs.2.2.1
      have nx : ∀ W', o m = 1 → fbQ s (sup o m 0) m (sOn s m).toNat (tset W 13 m 0) W' → ∀ a' g' : Int, a' = (if g < W' 21 0 then (m : Int) else a) → g' = max g (W' 21 0) → ∀ env, zsub env [(0, .ref 1000), (1, .int (iI n)), (2, .int (iI a')), (3, .int (iI g')), (4, .int (iI ((m : Int) + 1)))] → zW X (zPi fun x h' => ∃ v9 w', x = iI v9 ∧ h' = tH w' ∧ shQ w v9 w') (tH (tset W' 13 m 1)) 0 0 39 env [] := fun W' h1 q a' g' ha hg env he => by
        obtain ⟨z1, z2, z3, z4⟩ := fbQ.opt hJ (by omega) q c1 c2
        have hb := q.2.2.1
        refine ih (m + 1) (by omega) a' g' (tset W' 13 m 1) ⟨a, g, hR, Or.inr ⟨by omega, W' 21 0, _, z3, ha, hg⟩⟩ (Or.inr ?_) (by have := (hP1.fb q).op (m := m) (v := 1); rw [sup_r h1] at this; exact this) env he
        rw [ha]
        split
        · exact ⟨by omega, by omega, by rw [Int.toNat_natCast]; exact h1, by omega, by omega⟩
        · rcases hag with ⟨y1, y2, -⟩ | ⟨y1, y2, y3, y4⟩
          · omega
          · exact ⟨y1, by omega, y3, by omega, by omega⟩
      have hgr : -1 ≤ g ∧ g ≤ 5000 := by omega
      clear ih kont
      refine z_iload K dX4_shiftBottlenecks_39 rfl ?_
      refine j_iconst K dX4_shiftBottlenecks_41 ?_
      refine j_icmp_ge (tgt := 107) K dX4_shiftBottlenecks_42 rfl (by omega) (by omega) (fun c_42 => ?_) (fun c_42 => ?_)
      · exact absurd c_42 (by omega)
      · refine z_aload_n K dX4_shiftBottlenecks_45 rfl rfl rfl ?_
        refine t_geta K fd_X4_32_0 rfl dX4_shiftBottlenecks_46 ?_
        refine z_iload K dX4_shiftBottlenecks_49 rfl ?_
        refine t_zld K 13 4 rfl rfl rfl (by omega) (by omega) rfl dX4_shiftBottlenecks_51 ?_
        rw [Int.toNat_natCast, e13]
        refine j_if_eq (tgt := 101) K dX4_shiftBottlenecks_52 rfl (by omega) (fun c_52 => ?_) (fun c_52 => ?_)
        · have zz := skip c_52
          refine j_iinc K dX4_shiftBottlenecks_101 rfl (by decide) rfl ?_
          refine z_goto (tgt := 39) K dX4_shiftBottlenecks_104 rfl ?_
          exact zz _ ⟨rfl, rfl, rfl, rfl, rfl, trivial⟩
        · refine z_aload_n K dX4_shiftBottlenecks_55 rfl rfl rfl ?_
          refine t_geta K fd_X4_32_0 rfl dX4_shiftBottlenecks_56 ?_
          refine z_iload K dX4_shiftBottlenecks_59 rfl ?_
          refine j_iconst K dX4_shiftBottlenecks_61 ?_
          refine t_zst K 13 4 rfl rfl rfl (by omega) (by omega) rfl (by decide +kernel) dX4_shiftBottlenecks_62 ?_
          rw [Int.toNat_natCast]
          refine z_aload_n K dX4_shiftBottlenecks_63 rfl rfl rfl ?_
          refine z_iload K dX4_shiftBottlenecks_64 rfl ?_
          refine t_callv K (r1) cV_X4_252_X4 rfl rfl (by decide) (Nat.le_of_ble_eq_true rfl) (Nat.le_refl _) (Nat.le_refl _) dX4_shiftBottlenecks_66 ?_
          rintro W' hQ
          have hbr := hQ.2.2.1
          refine z_aload_n K dX4_shiftBottlenecks_69 rfl rfl rfl ?_
          refine t_geta K fd_X4_32_0 rfl dX4_shiftBottlenecks_70 ?_
          refine z_iload K dX4_shiftBottlenecks_73 rfl ?_
          refine j_iconst K dX4_shiftBottlenecks_75 ?_
          refine t_zst K 13 4 rfl rfl rfl (by omega) (by omega) rfl (by decide +kernel) dX4_shiftBottlenecks_76 ?_
          rw [Int.toNat_natCast]
          refine z_aload_n K dX4_shiftBottlenecks_77 rfl rfl rfl ?_
          refine t_geti K fd_X4_246_0 (by decide) rfl dX4_shiftBottlenecks_78 ?_
          refine z_iload_n K dX4_shiftBottlenecks_81 rfl rfl ?_
          refine j_icmp_le (tgt := 90) K dX4_shiftBottlenecks_82 rfl (by show -2147483648 ≤ W' 21 0 ∧ W' 21 0 ≤ 2147483647; omega) (by omega) (fun c_82 => ?_) (fun c_82 => ?_)
          · have zz := nx W' (by omega) hQ a _ (by have z : W' 21 0 ≤ g := c_82; rw [if_neg (by omega)]) rfl
            refine z_iload_n K dX4_shiftBottlenecks_90 rfl rfl ?_
            refine z_istore_n K dX4_shiftBottlenecks_91 rfl (by decide) rfl ?_
            refine z_iload_n K dX4_shiftBottlenecks_92 rfl rfl ?_
            refine z_aload_n K dX4_shiftBottlenecks_93 rfl rfl rfl ?_
            refine t_geti K fd_X4_246_0 (by decide) rfl dX4_shiftBottlenecks_94 ?_
            refine z_calls K (s_max (by omega) (by show -2147483648 ≤ W' 21 0 ∧ W' 21 0 ≤ 2147483647; omega)) cS_X4_167 rfl rfl (by decide) (Nat.le_of_ble_eq_true rfl) (Nat.le_refl _) (Nat.le_refl _) dX4_shiftBottlenecks_97 ?_
            refine z_istore_n K dX4_shiftBottlenecks_100 rfl (by decide) rfl ?_
            refine j_iinc K dX4_shiftBottlenecks_101 rfl (by decide) rfl ?_
            refine z_goto (tgt := 39) K dX4_shiftBottlenecks_104 rfl ?_
            exact zz _ ⟨rfl, rfl, rfl, rfl, rfl, trivial⟩
          · have zz := nx W' (by omega) hQ m _ (by have z : g < W' 21 0 := c_82; rw [if_pos z]) rfl
            refine z_iload K dX4_shiftBottlenecks_85 rfl ?_
            refine z_goto (tgt := 91) K dX4_shiftBottlenecks_87 rfl ?_
            refine z_istore_n K dX4_shiftBottlenecks_91 rfl (by decide) rfl ?_
            refine z_iload_n K dX4_shiftBottlenecks_92 rfl rfl ?_
            refine z_aload_n K dX4_shiftBottlenecks_93 rfl rfl rfl ?_
            refine t_geti K fd_X4_246_0 (by decide) rfl dX4_shiftBottlenecks_94 ?_
            refine z_calls K (s_max (by omega) (by show -2147483648 ≤ W' 21 0 ∧ W' 21 0 ≤ 2147483647; omega)) cS_X4_167 rfl rfl (by decide) (Nat.le_of_ble_eq_true rfl) (Nat.le_refl _) (Nat.le_refl _) dX4_shiftBottlenecks_97 ?_
            refine z_istore_n K dX4_shiftBottlenecks_100 rfl (by decide) rfl ?_
            refine j_iinc K dX4_shiftBottlenecks_101 rfl (by decide) rfl ?_
            refine z_goto (tgt := 39) K dX4_shiftBottlenecks_104 rfl ?_
            exact zz _ ⟨rfl, rfl, rfl, rfl, rfl, trivial⟩
  have lrd : ∀ (r n : Nat), n + r = 4 → ∀ (s o cl : Nat → Int) (W : tW), shR (w 0) n s o cl → shI s o → o 0 + o 1 + o 2 + o 3 = 4 - n → (∀ k : Nat, k < n → 0 ≤ cl k ∧ cl k ≤ 3) → shP w s o cl W → ∀ env, zsub env [(0, .ref 1000), (1, .int (iI n))] → zW X (zPi fun x h' => ∃ v9 w', x = iI v9 ∧ h' = tH w' ∧ shQ w v9 w') (tH W) 0 0 27 env [] := by
    intro r
    induction r with
    | zero =>
      intro n hn s o cl W hR hs hct hcl hP env he
      obtain rfl : n = 4 := by omega
      refine zW.cut he ?_
      have h0 := hs.2.2.2 0 (by omega)
      have h1 := hs.2.2.2 1 (by omega)
      have h2 := hs.2.2.2 2 (by omega)
      have h3 := hs.2.2.2 3 (by omega)
      have hz : ∀ m : Nat, m < 4 → o m = 0 := fun m hm => by rcases (by omega : m = 0 ∨ m = 1 ∨ m = 2 ∨ m = 3) with rfl | rfl | rfl | rfl <;> omega
      obtain ⟨⟨a1, a2, a3, a4, a5⟩, b, c, d⟩ := hP
      clear lre lwr
      refine z_iload_n K dX4_shiftBottlenecks_27 rfl rfl ?_
      refine j_iconst K dX4_shiftBottlenecks_28 ?_
      refine j_icmp_ge (tgt := 181) K dX4_shiftBottlenecks_29 rfl (by omega) (by omega) (fun c_29 => ?_) (fun c_29 => ?_)
      · refine z_aload_n K dX4_shiftBottlenecks_181 rfl rfl rfl ?_
        refine j_iconst K dX4_shiftBottlenecks_182 ?_
        refine t_putz K fd_X4_258_0 ⟨_, rfl, Or.inl rfl⟩ (by decide) rfl rfl (by omega) dX4_shiftBottlenecks_183 ?_
        refine z_aload_n K dX4_shiftBottlenecks_186 rfl rfl rfl ?_
        refine t_calli K (tw_makespanNow (w := tset W 9 0 1) (bb := 500) (by omega) (Or.inl a3) (by rw [tset_g (by decide), a1]; exact hs.1) (by rw [tset_g (by decide), a1]; exact hs.2.1) (by rw [tset_g (by decide), a2]; exact hs.2.2.2) (by rw [tset_g (by decide), a3]; omega) a4) cV_X4_188_X4 rfl rfl (by decide) (Nat.le_of_ble_eq_true rfl) (Nat.le_refl _) (Nat.le_refl _) dX4_shiftBottlenecks_187 ?_
        rintro v1 w2 ⟨rd, st, hw, hT, hv⟩
        have hTp : Tp s o (-1) 0 rd st := by have := hT.1; rw [tset_g (by decide), tset_g (by decide), tset_g (by decide), a1, a2, a3] at this; exact this.hu
        have hTq : Tq s o st := by have := hT.2.1; rw [tset_g (by decide), tset_g (by decide), a1, a2] at this; exact this
        subst hw
        exact t_iret K (Nat.le_refl _) (Nat.le_refl _) (⟨s, o, cl, rd, st, hR, hs, hz, hTp, hTq, by rw [hv, tset_g (by decide), a1], a1, a2, b, rfl, c, hcl, fun f hf => by rw [wt_o (fun e => hf (by rw [e]; decide)) (fun e => hf (by rw [e]; decide)), tset_g (fun e => hf (by rw [e]; decide))]; exact d f (fun e => hf (by revert e; simp; omega))⟩) dX4_shiftBottlenecks_190
      · exact absurd c_29 (by omega)
    | succ r ih =>
      intro n hn s o cl W hR hs hct hcl hP env he
      refine zW.cut he ?_
      have h0 := hs.2.2.2 0 (by omega)
      have h1 := hs.2.2.2 1 (by omega)
      have h2 := hs.2.2.2 2 (by omega)
      have h3 := hs.2.2.2 3 (by omega)
      have hop : ∃ m : Nat, m < 4 ∧ o m ≠ 0 := by
        rcases (by omega : o 0 ≠ 0 ∨ o 1 ≠ 0 ∨ o 2 ≠ 0 ∨ o 3 ≠ 0) with z | z | z | z
        · exact ⟨0, by omega, z⟩
        · exact ⟨1, by omega, z⟩
        · exact ⟨2, by omega, z⟩
        · exact ⟨3, by omega, z⟩
      have k107 : ∀ (a g : Int) (W : tW), wrR s o 4 a g → 0 ≤ a → a ≤ 3 → o a.toNat = 1 → shP w s o cl W → ∀ env, zsub env [(0, .ref 1000), (1, .int (iI n)), (2, .int (iI a))] → zW X (zPi fun x h' => ∃ v9 w', x = iI v9 ∧ h' = tH w' ∧ shQ w v9 w') (tH W) 0 0 107 env [] := by
        intro a g W hw a0 a3 hoa hP env he
        refine zW.cut he ?_
        have em : ((a.toNat : Nat) : Int) = a := by omega
        have hJ : shJ s (sup o a.toNat 0) := ⟨hs.1, hs.2.1, hs.j.cl⟩
        have hP1 : shP w s (sup o a.toNat 0) cl (tset W 13 a.toNat 0) := hP.op
        have h5 := (hs.2.1 a a0 a3).1
        obtain ⟨c, c1, c2⟩ := feas hs.1 hs.2.1 (m := a.toNat) (n := (sOn s a.toNat).toNat) (by omega) (by rw [em]; omega) hs.2.2.1
        have r2 := fun W' (q : fbQ s (sup o a.toNat 0) a.toNat (sOn s a.toNat).toNat (tset W 13 a.toNat 0) W') => fbQ.opt hJ (by omega) q c1 c2
        have r1 := tw_fb hJ (m := a.toNat) (by omega) hP1.1
        have r3 := fun W' (q : fbQ s (sup o a.toNat 0) a.toNat (sOn s a.toNat).toNat (tset W 13 a.toNat 0) W') => tw_tb hJ (m := a.toNat) (by omega) q.1 (r2 W' q).2.1
        have hct2 : sup o a.toNat 0 0 + sup o a.toNat 0 1 + sup o a.toNat 0 2 + sup o a.toNat 0 3 = 4 - ((n + 1 : Nat) : Int) := by
          rcases (by omega : a.toNat = 0 ∨ a.toNat = 1 ∨ a.toNat = 2 ∨ a.toNat = 3) with z | z | z | z <;> rw [z] at hoa ⊢ <;> simp only [sup] <;> simp <;> omega
        have nx := fun W' ch (q : fbQ s (sup o a.toNat 0) a.toNat (sOn s a.toNat).toNat (tset W 13 a.toNat 0) W') => lre n a (sup o a.toNat 0) cl (sPut s a.toNat (sOn s a.toNat).toNat (W' 20)) (by omega) a0 a3 hcl (fun s' W2 hre hs' hP' => ih (n + 1) (by omega) s' (sup o a.toNat 0) (sup cl n a) W2 ⟨s, o, cl, a, g, _, _, hR, hw, rfl, (r2 W' q).2.2.1, hre, rfl⟩ hs' hct2 (fun k hk => by by_cases z : k = n; (rw [z, sup_s]; omega); (rw [sup_n z]; exact hcl k (by omega))) hP') n 0 (by omega) _ ch (wF W' 0 (sPut s a.toNat (sOn s a.toNat).toNat (W' 20))) rfl (r2 W' q).2.2.2 (hP1.fb q).tb
        clear ih lre lwr
        rw [em] at r1 r3 nx
        refine z_aload_n K dX4_shiftBottlenecks_107 rfl rfl rfl ?_
        refine t_geta K fd_X4_32_0 rfl dX4_shiftBottlenecks_108 ?_
        refine z_iload_n K dX4_shiftBottlenecks_111 rfl rfl ?_
        refine j_iconst K dX4_shiftBottlenecks_112 ?_
        refine t_zst K 13 4 rfl rfl rfl (by omega) (by omega) rfl (by decide +kernel) dX4_shiftBottlenecks_113 ?_
        refine z_aload_n K dX4_shiftBottlenecks_114 rfl rfl rfl ?_
        refine z_iload_n K dX4_shiftBottlenecks_115 rfl rfl ?_
        refine t_callv K (r1) cV_X4_252_X4 rfl rfl (by decide) (Nat.le_of_ble_eq_true rfl) (Nat.le_refl _) (Nat.le_refl _) dX4_shiftBottlenecks_116 ?_
        rintro W' hQ
        refine z_aload_n K dX4_shiftBottlenecks_119 rfl rfl rfl ?_
        refine z_iload_n K dX4_shiftBottlenecks_120 rfl rfl ?_
        refine t_calli K (r3 W' hQ) cV_X4_255_X4 rfl rfl (by decide) (Nat.le_of_ble_eq_true rfl) (Nat.le_refl _) (Nat.le_refl _) dX4_shiftBottlenecks_121 ?_
        rintro v1 w2 ⟨hv, hw2⟩
        subst hw2
        refine z_istore K dX4_shiftBottlenecks_124 (by decide) rfl ?_
        refine j_iconst K dX4_shiftBottlenecks_126 ?_
        refine z_istore K dX4_shiftBottlenecks_127 (by decide) rfl ?_
        exact nx W' _ hQ _ ⟨rfl, rfl, rfl, rfl, rfl, trivial⟩
      have go := lwr n s o cl hs hop k107 4 0 (by omega) (-1) (-1) W ⟨rfl, rfl⟩ (Or.inl ⟨rfl, rfl, fun i hi => by omega⟩) hP
      clear ih lre lwr k107
      refine z_iload_n K dX4_shiftBottlenecks_27 rfl rfl ?_
      refine j_iconst K dX4_shiftBottlenecks_28 ?_
      refine j_icmp_ge (tgt := 181) K dX4_shiftBottlenecks_29 rfl (by omega) (by omega) (fun c_29 => ?_) (fun c_29 => ?_)
      · exact absurd c_29 (by omega)
      · refine j_iconst K dX4_shiftBottlenecks_32 ?_
        refine z_istore_n K dX4_shiftBottlenecks_33 rfl (by decide) rfl ?_
        refine j_iconst K dX4_shiftBottlenecks_34 ?_
        refine z_istore_n K dX4_shiftBottlenecks_35 rfl (by decide) rfl ?_
        refine j_iconst K dX4_shiftBottlenecks_36 ?_
        refine z_istore K dX4_shiftBottlenecks_37 (by decide) rfl ?_
        exact go _ ⟨rfl, rfl, rfl, rfl, rfl, trivial⟩
  have lop : ∀ (r m : Nat), m + r = 4 → ∀ (o : Nat → Int) (W : tW), (∀ i : Nat, i < m → o i = 1) → shP w (w 0) o (w 8) W → ∀ env, zsub env [(0, .ref 1000), (1, .int (iI m))] → zW X (zPi fun x h' => ∃ v9 w', x = iI v9 ∧ h' = tH w' ∧ shQ w v9 w') (tH W) 0 0 7 env [] := by
    intro r
    induction r with
    | zero =>
      intro m hm o W h1 hP env he
      obtain rfl : m = 4 := by omega
      refine zW.cut he ?_
      have go := lrd 4 0 (by omega) (w 0) o (w 8) W ⟨rfl, h1⟩ ⟨hA, hO, ha.opn hA (fun m hm => by rw [h1 m hm]; omega), fun m hm => by rw [h1 m hm]; omega⟩ (by rw [h1 0 (by omega), h1 1 (by omega), h1 2 (by omega), h1 3 (by omega)]; rfl) (fun k hk => by omega) hP
      clear lre lwr lrd
      refine z_iload_n K dX4_shiftBottlenecks_7 rfl rfl ?_
      refine j_iconst K dX4_shiftBottlenecks_8 ?_
      refine j_icmp_ge (tgt := 25) K dX4_shiftBottlenecks_9 rfl (by omega) (by omega) (fun c_9 => ?_) (fun c_9 => ?_)
      · refine j_iconst K dX4_shiftBottlenecks_25 ?_
        refine z_istore_n K dX4_shiftBottlenecks_26 rfl (by decide) rfl ?_
        exact go _ ⟨rfl, rfl, trivial⟩
      · exact absurd c_9 (by omega)
    | succ r ih =>
      intro m hm o W h1 hP env he
      refine zW.cut he ?_
      have nx := ih (m + 1) (by omega) (sup o m 1) (tset W 13 m 1) (fun i hi => by by_cases z : i = m; (rw [z, sup_s]); (rw [sup_n z]; exact h1 i (by omega))) hP.op
      clear ih lre lwr lrd
      refine z_iload_n K dX4_shiftBottlenecks_7 rfl rfl ?_
      refine j_iconst K dX4_shiftBottlenecks_8 ?_
      refine j_icmp_ge (tgt := 25) K dX4_shiftBottlenecks_9 rfl (by omega) (by omega) (fun c_9 => ?_) (fun c_9 => ?_)
      · exact absurd c_9 (by omega)
      · refine z_aload_n K dX4_shiftBottlenecks_12 rfl rfl rfl ?_
        refine t_geta K fd_X4_32_0 rfl dX4_shiftBottlenecks_13 ?_
        refine z_iload_n K dX4_shiftBottlenecks_16 rfl rfl ?_
        refine j_iconst K dX4_shiftBottlenecks_17 ?_
        refine t_zst K 13 4 rfl rfl rfl (by omega) (by omega) rfl (by decide +kernel) dX4_shiftBottlenecks_18 ?_
        rw [Int.toNat_natCast]
        refine j_iinc K dX4_shiftBottlenecks_19 rfl (by decide) rfl ?_
        refine z_goto (tgt := 7) K dX4_shiftBottlenecks_22 rfl ?_
        exact nx _ ⟨rfl, rfl, trivial⟩
  have go := lop 4 0 (by omega) (w 13) (tset w 3 0 0) (fun i hi => by omega) ⟨hI.fb, rfl, tset_s, fun f hf => tset_g (fun e => hf (by rw [e]; decide))⟩
  clear lre lwr lrd lop
  refine z_aload_n K dX4_shiftBottlenecks_0 rfl rfl rfl ?_
  refine j_iconst K dX4_shiftBottlenecks_1 ?_
  refine t_puti K fd_X4_79_0 ⟨_, rfl, Or.inl rfl⟩ (by decide) rfl rfl dX4_shiftBottlenecks_2 ?_
  refine j_iconst K dX4_shiftBottlenecks_5 ?_
  refine z_istore_n K dX4_shiftBottlenecks_6 rfl (by decide) rfl ?_
  exact go _ ⟨rfl, rfl, trivial⟩

