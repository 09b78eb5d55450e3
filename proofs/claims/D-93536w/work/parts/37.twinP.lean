/-! ===== the reference: the best order ===== -/
theorem tset_row {w : tW} {f i : Nat} {v : Int} : tset w f i v f = sup (w f) i v := by
  funext j
  unfold tset sup
  by_cases c : j = i <;> simp [c]
/-- the world with another best order -/
def wB (w : tW) (b : Nat → Int) (v : Int) : tW := fun f => if f = 20 then b else if f = 21 then sup (w 21) 0 v else w f
theorem wB_20 {w : tW} {b : Nat → Int} {v : Int} : wB w b v 20 = b := rfl
theorem wB_21 {w : tW} {b : Nat → Int} {v : Int} : wB w b v 21 0 = v := rfl
theorem wB_f {w : tW} {b : Nat → Int} {v : Int} {f : Nat} (h1 : f ≠ 20) (h2 : f ≠ 21) : wB w b v f = w f := by simp [wB, h1, h2]
theorem wB_t {w : tW} {v : Int} : tset w 21 0 v = wB w (w 20) v := by
  funext f j
  unfold tset wB sup
  by_cases c : f = 21
  · subst c; by_cases d : j = 0 <;> simp [d]
  · by_cases d : f = 20
    · subst d; simp
    · simp [c, d]
theorem wB_s {w : tW} {b : Nat → Int} {v x : Int} {i : Nat} : tset (wB w b v) 20 i x = wB w (sup b i x) v := by
  funext f j
  unfold tset wB sup
  by_cases c : f = 20
  · subst c; by_cases d : j = i <;> simp [d]
  · simp [c]
/-- what a try leaves -/
def tryQ (s o : Nat → Int) (m n p : Nat) (c : Nat → Int) (w w' : tW) : Prop := ∃ c2, EQ p c2 c ∧ w' 0 = sPut s m n c2 ∧ Fr [0, 11, 12, 20, 21] w w' ∧ (-1 ≤ w' 21 0 ∧ w' 21 0 ≤ 5000) ∧ bOf s o m n (fun c' => LT p c' c ∨ EQ p c' c) (w' 21 0) (w' 20)
/-- what a try needs -/
def tryP (s o : Nat → Int) (m n p : Nat) (c : Nat → Int) (w : tW) : Prop := w 0 = sPut s m n c ∧ w 13 = o ∧ w 14 0 = -1 ∧ (0 ≤ w 15 0 ∧ w 15 0 ≤ 3000) ∧ isPm s m p c ∧ (∀ k : Nat, k < 20 → w 22 k = 0 ∨ w 22 k = 1) ∧ (∀ k : Nat, (k : Int) < s 1 → (w 22 k = 1 ↔ ∃ j, j < p ∧ c j = k)) ∧ (-1 ≤ w 21 0 ∧ w 21 0 ≤ 5000) ∧ bOf s o m n (fun c' => LT p c' c) (w 21 0) (w 20)
theorem tw_tryLeaf {s o : Nat → Int} (hA : WfA s) (hO : WfO s) {m n : Nat} (hm : m ≤ 3) (hn : sOn s m = n) (ho : ∀ m : Nat, m < 4 → 0 ≤ o m ∧ o m ≤ 1) {w : tW} {c : Nat → Int} (h : tryP s o m n n c w) :
    tMv yX4_tryOrders cX4_tryOrders 6 7 [.int (iI m), .int (iI n)] w (tryQ s o m n n c w) := by
  refine zMet.of (by decide) (Nat.le_of_ble_eq_true rfl) fun X K => ?_
  obtain ⟨w0, w13, w14, w15, hc, hu, hu2, hbm, hb⟩ := h
  obtain ⟨wA, wO⟩ := sPut_W hA hO hm hn hc
  have h5 := (hO m (by omega) (by omega)).1
  have eon : w 0 (179 + (m : Int)).toNat = n := by rw [w0, sPut_lo (by omega)]; exact hn
  have stay : ∀ rd st v, fT w 500 rd st → v = mkS (w 0) st → (v < 0 ∨ (0 ≤ w 21 0 ∧ w 21 0 ≤ v)) → tryQ s o m n n c w (wt w rd st) := fun rd st v hT hv hb2 => by
    have hTp : Tp (sPut s m n c) o (-1) 0 rd st := by have := hT.1; rw [w0, w13, w14] at this; exact this.hu
    have hTq : Tq (sPut s m n c) o st := by have := hT.2.1; rw [w0, w13] at this; exact this
    refine ⟨c, fun _ _ => rfl, w0, fun f hf => ?_, hbm, hb.no hA hO hm hn hc ⟨rd, st, hTp, hTq, by rw [hv, w0]⟩ hb2⟩
    rw [wt_o (fun e => hf (by rw [e]; decide)) (fun e => hf (by rw [e]; decide))]
  have loop : ∀ rd st, fT w 500 rd st → 0 ≤ mkS (w 0) st → mkS (w 0) st ≤ 5000 → (w 21 0 < 0 ∨ mkS (w 0) st < w 21 0) → ∀ (r i : Nat), i + r = n → ∀ b, EQ i c b → ∀ env, zsub env [(0, .ref 1000), (1, .int (iI m)), (3, .int (iI n)), (5, .int (iI i))] → zW X (zPv fun h' => ∃ w', h' = tH w' ∧ tryQ s o m n n c w w') (tH (wB (wt w rd st) b (mkS (w 0) st))) 0 0 52 env [] := by
    intro rd st hT hv0 hv5 hb2 r
    have hTp : Tp (sPut s m n c) o (-1) 0 rd st := by have := hT.1; rw [w0, w13, w14] at this; exact this.hu
    have hTq : Tq (sPut s m n c) o st := by have := hT.2.1; rw [w0, w13] at this; exact this
    induction r with
    | zero =>
      intro i hi b he env hv
      refine zW.cut hv ?_
      obtain rfl : i = n := by omega
      have fin : tryQ s o m i i c w (wB (wt w rd st) b (mkS (w 0) st)) := by
        refine ⟨c, fun _ _ => rfl, w0, fun f hf => ?_, ⟨by rw [wB_21]; omega, by rw [wB_21]; exact hv5⟩, hb.yes hA hO hm hn hc ⟨rd, st, hTp, hTq, by rw [wB_21, w0]⟩ (by rw [wB_21]; exact hv0) (by rw [wB_21]; exact hb2) he⟩
        rw [wB_f (fun e => hf (by rw [e]; decide)) (fun e => hf (by rw [e]; decide)), wt_o (fun e => hf (by rw [e]; decide)) (fun e => hf (by rw [e]; decide))]
      refine z_iload K dX4_tryOrders_52 rfl ?_
      refine z_iload_n K dX4_tryOrders_54 rfl rfl ?_
      refine j_icmp_ge (tgt := 78) K dX4_tryOrders_55 rfl (by omega) (by omega) (fun c_55 => ?_) (fun c_55 => ?_)
      · exact t_vret K (Nat.le_refl _) (Nat.le_refl _) (fin) dX4_tryOrders_78
      · exact absurd c_55 (by omega)
    | succ r ih =>
      intro i hi b he env hv
      refine zW.cut hv ?_
      have e0 : wB (wt w rd st) b (mkS (w 0) st) 0 = sPut s m n c := w0
      have ea : sPut s m n c (183 + 5 * (m : Int) + (i : Int)).toNat = c i := by rw [show (183 + 5 * (m : Int) + (i : Int)).toNat = 183 + 5 * m + i by omega]; exact sPut_at (by omega)
      have nx := ih (i + 1) (by omega) (sup b i (c i)) (fun j hj => by by_cases q : j = i; (rw [q, sup_s]); (rw [sup_n q]; exact he j (by omega)))
      refine z_iload K dX4_tryOrders_52 rfl ?_
      refine z_iload_n K dX4_tryOrders_54 rfl rfl ?_
      refine j_icmp_ge (tgt := 78) K dX4_tryOrders_55 rfl (by omega) (by omega) (fun c_55 => ?_) (fun c_55 => ?_)
      · exact absurd c_55 (by omega)
      · refine z_aload_n K dX4_tryOrders_58 rfl rfl rfl ?_
        refine t_geta K fd_X4_49_0 rfl dX4_tryOrders_59 ?_
        refine z_iload K dX4_tryOrders_62 rfl ?_
        refine z_aload_n K dX4_tryOrders_64 rfl rfl rfl ?_
        refine z_iload_n K dX4_tryOrders_65 rfl rfl ?_
        refine z_iload K dX4_tryOrders_66 rfl ?_
        refine t_callp K (tw_ordered (by omega) (by omega)) cV_X4_142_X4 rfl rfl (by omega) (Nat.le_of_ble_eq_true rfl) (Nat.le_refl _) (Nat.le_refl _) dX4_tryOrders_68 ?_
        rw [e0, ea]
        refine t_ist K 20 5 rfl rfl rfl (by omega) (by omega) rfl dX4_tryOrders_71 ?_
        rw [Int.toNat_natCast, wB_s]
        refine j_iinc K dX4_tryOrders_72 rfl (by decide) rfl ?_
        refine z_goto (tgt := 52) K dX4_tryOrders_75 rfl ?_
        exact nx _ ⟨rfl, rfl, rfl, rfl, trivial⟩
  refine z_aload_n K dX4_tryOrders_0 rfl rfl rfl ?_
  refine t_geta K fd_X4_9_0 rfl dX4_tryOrders_1 ?_
  refine j_sipush K dX4_tryOrders_4 (by decide +kernel) ?_
  refine z_iload_n K dX4_tryOrders_7 rfl rfl ?_
  refine j_iadd K dX4_tryOrders_8 ?_
  refine t_ild K 0 203 rfl rfl rfl (by omega) (by omega) rfl dX4_tryOrders_9 ?_
  rw [eon]
  refine z_istore_n K dX4_tryOrders_10 rfl (by decide) rfl ?_
  refine z_iload_n K dX4_tryOrders_11 rfl rfl ?_
  refine z_iload_n K dX4_tryOrders_12 rfl rfl ?_
  refine j_icmp_ne (tgt := 79) K dX4_tryOrders_13 rfl (by omega) (by omega) (fun c_13 => ?_) (fun c_13 => ?_)
  · exact absurd rfl c_13
  · refine z_aload_n K dX4_tryOrders_16 rfl rfl rfl ?_
    refine t_calli K (tw_makespanNow (w := w) (bb := 500) (by omega) (Or.inl w14) (by rw [w0]; exact wA) (by rw [w0]; exact wO) (by rw [w13]; exact ho) (by rw [w14]; omega) w15) cV_X4_188_X4 rfl rfl (by omega) (Nat.le_of_ble_eq_true rfl) (Nat.le_refl _) (Nat.le_refl _) dX4_tryOrders_17 ?_
    rintro v1 w2 ⟨rd, st, hw2, hT, hv⟩
    subst hw2
    have hmr : -1 ≤ v1 ∧ v1 ≤ 5000 := by (have := gEnd_r (st := st) (by rw [w0]; exact wA : WfA (w 0)) (n := (w 0 1).toNat) (by have := (by rw [w0]; exact wA : WfA (w 0)).2.1.1; omega) (fun i hi => by have := hT.2.2 i hi; omega); rw [hv]; unfold mkS; split <;> omega)
    refine z_istore K dX4_tryOrders_20 (by decide) rfl ?_
    refine z_iload K dX4_tryOrders_22 rfl ?_
    refine j_if_lt (tgt := 78) K dX4_tryOrders_24 rfl (by omega) (fun c_24 => ?_) (fun c_24 => ?_)
    · exact t_vret K (Nat.le_refl _) (Nat.le_refl _) (stay rd st v1 hT hv (by first | exact Or.inl c_24 | exact Or.inr ⟨c_31, c_40⟩)) dX4_tryOrders_78
    · refine z_aload_n K dX4_tryOrders_27 rfl rfl rfl ?_
      refine t_geti K fd_X4_246_0 (by decide) rfl dX4_tryOrders_28 ?_
      refine j_if_lt (tgt := 43) K dX4_tryOrders_31 rfl (by show -2147483648 ≤ w 21 0 ∧ w 21 0 ≤ 2147483647; omega) (fun c_31 => ?_) (fun c_31 => ?_)
      · refine z_aload_n K dX4_tryOrders_43 rfl rfl rfl ?_
        refine z_iload K dX4_tryOrders_44 rfl ?_
        refine t_puti K fd_X4_246_0 ⟨_, rfl, Or.inl rfl⟩ (by decide) rfl rfl dX4_tryOrders_46 ?_
        refine j_iconst K dX4_tryOrders_49 ?_
        refine z_istore K dX4_tryOrders_50 (by decide) rfl ?_
        rw [wB_t]
        have hb9 : w 21 0 < 0 ∨ v1 < w 21 0 := by first | exact Or.inl c_31 | exact Or.inr c_40
        subst hv; exact loop rd st hT (by omega) hmr.2 hb9 n 0 (by omega) (w 20) (fun j hj => by omega) _ ⟨rfl, rfl, rfl, rfl, trivial⟩
      · refine z_iload K dX4_tryOrders_34 rfl ?_
        refine z_aload_n K dX4_tryOrders_36 rfl rfl rfl ?_
        refine t_geti K fd_X4_246_0 (by decide) rfl dX4_tryOrders_37 ?_
        refine j_icmp_ge (tgt := 78) K dX4_tryOrders_40 rfl (by omega) (by show -2147483648 ≤ w 21 0 ∧ w 21 0 ≤ 2147483647; omega) (fun c_40 => ?_) (fun c_40 => ?_)
        · exact t_vret K (Nat.le_refl _) (Nat.le_refl _) (stay rd st v1 hT hv (by first | exact Or.inl c_24 | exact Or.inr ⟨c_31, c_40⟩)) dX4_tryOrders_78
        · refine z_aload_n K dX4_tryOrders_43 rfl rfl rfl ?_
          refine z_iload K dX4_tryOrders_44 rfl ?_
          refine t_puti K fd_X4_246_0 ⟨_, rfl, Or.inl rfl⟩ (by decide) rfl rfl dX4_tryOrders_46 ?_
          refine j_iconst K dX4_tryOrders_49 ?_
          refine z_istore K dX4_tryOrders_50 (by decide) rfl ?_
          rw [wB_t]
          have hb9 : w 21 0 < 0 ∨ v1 < w 21 0 := by first | exact Or.inl c_31 | exact Or.inr c_40
          subst hv; exact loop rd st hT (by omega) hmr.2 hb9 n 0 (by omega) (w 20) (fun j hj => by omega) _ ⟨rfl, rfl, rfl, rfl, trivial⟩
theorem tw_try {s o : Nat → Int} (hA : WfA s) (hO : WfO s) {m n : Nat} (hm : m ≤ 3) (hn : sOn s m = n) (ho : ∀ m : Nat, m < 4 → 0 ≤ o m ∧ o m ≤ 1) : ∀ (r p : Nat), p + r = n → ∀ (w : tW) (c : Nat → Int), tryP s o m n p c w →
    tMv yX4_tryOrders cX4_tryOrders 6 (7 + r) [.int (iI m), .int (iI p)] w (tryQ s o m n p c w) := by
  intro r
  induction r with
  | zero =>
    intro p hp w c h
    obtain rfl : p = n := by omega
    exact tw_tryLeaf hA hO hm hn ho h
  | succ r ih =>
    intro p hp w c h
    refine zMet.of (by decide) (Nat.le_of_ble_eq_true rfl) fun X K => ?_
    obtain ⟨w0, w13, w14, w15, hc, hu, hu2, hbm, hb⟩ := h
    have h5 := (hO m (by omega) (by omega)).1
    have h20 := hA.2.1.1
    have e1 : (1 : Int).toNat = 1 := rfl
    have loop : ∀ (q k : Nat), k + q = (s 1).toNat → ∀ (W : tW) (ck : Nat → Int), EQ p ck c → W 0 = sPut s m n ck → Fr [0, 11, 12, 20, 21] w W → (-1 ≤ W 21 0 ∧ W 21 0 ≤ 5000) → bOf s o m n (fun c' => LT p c' c ∨ (EQ p c' c ∧ c' p < k)) (W 21 0) (W 20) → ∀ env, zsub env [(0, .ref 1000), (1, .int (iI m)), (2, .int (iI p)), (4, .int (iI k))] → zW X (zPv fun h' => ∃ w', h' = tH w' ∧ tryQ s o m n p c w w') (tH W) 0 0 82 env [] := by
      intro q
      induction q with
      | zero =>
        intro k hk W ck eck W0 hF hb1 hb2 env he
        refine zW.cut he ?_
        have es : W 0 1 = s 1 := by rw [W0]; exact sPut_lo (by omega)
        have fin : tryQ s o m n p c w W := ⟨ck, eck, W0, hF, hb1, hb2.c fun c' hc' => by
          have := (hc'.1 p (by omega)).1.2
          exact ⟨fun z => z.imp id fun y => y.1, fun z => z.imp id fun y => ⟨y, by omega⟩⟩⟩
        clear ih
        refine z_iload K dX4_tryOrders_82 rfl ?_
        refine z_aload_n K dX4_tryOrders_84 rfl rfl rfl ?_
        refine t_geta K fd_X4_9_0 rfl dX4_tryOrders_85 ?_
        refine j_iconst K dX4_tryOrders_88 ?_
        refine t_ild K 0 203 rfl rfl rfl (by omega) (by omega) rfl dX4_tryOrders_89 ?_
        rw [e1, es]
        refine j_icmp_ge (tgt := 155) K dX4_tryOrders_90 rfl (by omega) (by omega) (fun c_90 => ?_) (fun c_90 => ?_)
        · exact t_vret K (Nat.le_refl _) (Nat.le_refl _) (fin) dX4_tryOrders_155
        · exact absurd c_90 (by omega)
      | succ q ihq =>
        intro k hk W ck eck W0 hF hb1 hb2 env he
        refine zW.cut he ?_
        have es : W 0 1 = s 1 := by rw [W0]; exact sPut_lo (by omega)
        have emc : W 0 (62 + (k : Int)).toNat = s (62 + (k : Int)).toNat := by rw [W0]; exact sPut_lo (by omega)
        have W22 : W 22 = w 22 := hF 22 (by decide)
        have huk := hu k (by omega)
        have hmr : 0 ≤ s (62 + (k : Int)).toNat ∧ s (62 + (k : Int)).toNat ≤ 3 := (hA.2.1.2 k (by omega) (by omega)).2.1
        have skip : (s (62 + (k : Int)).toNat ≠ m ∨ w 22 k = 1) → ∀ env, zsub env [(0, .ref 1000), (1, .int (iI m)), (2, .int (iI p)), (4, .int (iI ((k : Int) + 1)))] → zW X (zPv fun h' => ∃ w', h' = tH w' ∧ tryQ s o m n p c w w') (tH W) 0 0 82 env [] := fun hs env he => by
          refine ihq (k + 1) (by omega) W ck eck W0 hF hb1 (hb2.c fun c' hc' => ?_) env he
          have a := hc'.1 p (by omega)
          have ne : EQ p c' c → c' p ≠ k := fun e z => by
            rcases hs with y | y
            · rw [z] at a; exact y a.2
            · obtain ⟨j, hj, ej⟩ := (hu2 k (by omega)).mp y
              have := hc'.2 j p (by omega) (by omega) (by rw [e j hj, ej, z])
              omega
          exact ⟨fun z => z.imp id fun y => ⟨y.1, by have := y.2; omega⟩, fun z => z.imp id fun y => ⟨y.1, by have := ne y.1; have := y.2; omega⟩⟩
        have go : s (62 + (k : Int)).toNat = m → w 22 k = 0 → tryP s o m n (p + 1) (sup ck p k) (tset (tset W 22 k 1) 0 (183 + 5 * m + p) k) := fun hs hz => by
          have hcp := hc.e eck.symm
          refine ⟨by rw [tset_row, show (tset W 22 k 1) 0 = W 0 from rfl, W0, sPut_s (by omega)], (hF 13 (by decide)).trans w13, by rw [show tset (tset W 22 k 1) 0 (183 + 5 * m + p) k 14 = w 14 from hF 14 (by decide)]; exact w14, by rw [show tset (tset W 22 k 1) 0 (183 + 5 * m + p) k 15 = w 15 from hF 15 (by decide)]; exact w15, ⟨fun i hi => ?_, fun i j hi hj e => ?_⟩, fun l hl => ?_, fun l hl => ?_, hb1, hb2.c fun c' hc' => ?_⟩
          · by_cases z : i = p
            · rw [z, sup_s]; exact ⟨by omega, hs⟩
            · rw [sup_n z]; exact hcp.1 i (by omega)
          · have nk : ∀ j, j < p → ck j ≠ k := fun j hj z => by
              have := (hu2 k (by omega)).mpr ⟨j, hj, by rw [← eck j hj]; exact z⟩
              omega
            by_cases z : i = p <;> by_cases y : j = p
            · omega
            · rw [z, sup_s, sup_n y] at e; exact absurd e.symm (nk j (by omega))
            · rw [y, sup_s, sup_n z] at e; exact absurd e (nk i (by omega))
            · rw [sup_n z, sup_n y] at e; exact hcp.2 i j (by omega) (by omega) e
          · rw [tset_f (by decide), tset_row, W22]
            by_cases z : l = k
            · rw [z, sup_s]; omega
            · rw [sup_n z]; exact hu l hl
          · rw [tset_f (by decide), tset_row, W22]
            by_cases z : l = k
            · rw [z, sup_s]; exact ⟨fun _ => ⟨p, by omega, sup_s⟩, fun _ => rfl⟩
            · rw [sup_n z, hu2 l hl]
              constructor
              · rintro ⟨j, hj, ej⟩
                exact ⟨j, by omega, by rw [sup_n (by omega), eck j hj]; exact ej⟩
              · rintro ⟨j, hj, ej⟩
                by_cases y : j = p
                · rw [y, sup_s] at ej; omega
                · rw [sup_n y] at ej
                  exact ⟨j, by omega, by rw [← eck j (by omega)]; exact ej⟩
          · have ep : EQ p (sup ck p k) c := fun j hj => by rw [sup_n (by omega)]; exact eck j hj
            rw [LT_s, sup_s]
            exact ⟨fun z => z.imp (fun y => y.r ep.symm) fun y => ⟨y.1.trans ep.symm, y.2⟩, fun z => z.imp (fun y => y.r ep) fun y => ⟨y.1.trans ep, y.2⟩⟩
        have back : w 22 k = 0 → ∀ W', tryQ s o m n (p + 1) (sup ck p k) (tset (tset W 22 k 1) 0 (183 + 5 * m + p) k) W' → ∀ env, zsub env [(0, .ref 1000), (1, .int (iI m)), (2, .int (iI p)), (4, .int (iI ((k : Int) + 1)))] → zW X (zPv fun h' => ∃ w', h' = tH w' ∧ tryQ s o m n p c w w') (tH (tset W' 22 k 0)) 0 0 82 env [] := fun hz W' ⟨c2, d1, d2, d3, d4, d5⟩ env he => by
          have ep : EQ p (sup ck p k) c := fun j hj => by rw [sup_n (by omega)]; exact eck j hj
          refine ihq (k + 1) (by omega) (tset W' 22 k 0) c2 ((EQ_s.mp d1).1.trans ep) d2 (fun f hf => ?_) d4 (d5.c fun c' hc' => ?_) env he
          · have n0 : f ≠ 0 := fun e => hf (by rw [e]; decide)
            by_cases z : f = 22
            · subst z
              rw [tset_row, d3 22 (by decide), show tset (tset W 22 k 1) 0 (183 + 5 * m + p) k 22 = tset W 22 k 1 22 from rfl, tset_row, W22]
              funext j
              by_cases y : j = k
              · rw [y, sup_s, hz]
              · rw [sup_n y, sup_n y]
            · have t1 : ∀ (U : tW) i v, tset U 22 i v f = U f := fun U i v => by funext j; exact tset_f z
              have t0 : ∀ (U : tW) i v, tset U 0 i v f = U f := fun U i v => by funext j; exact tset_f n0
              rw [t1, d3 f hf, t0, t1]
              exact hF f hf
          · rw [LT_s, EQ_s, sup_s]
            constructor
            · rintro ((z | z) | z)
              · exact Or.inl (z.r ep)
              · exact Or.inr ⟨z.1.trans ep, by have := z.2; omega⟩
              · exact Or.inr ⟨z.1.trans ep, by have := z.2; omega⟩
            · rintro (z | z)
              · exact Or.inl (Or.inl (z.r ep.symm))
              · rcases (by have := z.2; omega : c' p < k ∨ c' p = k) with y | y
                · exact Or.inl (Or.inr ⟨z.1.trans ep.symm, y⟩)
                · exact Or.inr ⟨z.1.trans ep.symm, y⟩
        have rec9 := fun hs hz => ih (p + 1) (by omega) _ _ (go hs hz)
        clear ih ihq
        refine z_iload K dX4_tryOrders_82 rfl ?_
        refine z_aload_n K dX4_tryOrders_84 rfl rfl rfl ?_
        refine t_geta K fd_X4_9_0 rfl dX4_tryOrders_85 ?_
        refine j_iconst K dX4_tryOrders_88 ?_
        refine t_ild K 0 203 rfl rfl rfl (by omega) (by omega) rfl dX4_tryOrders_89 ?_
        rw [e1, es]
        refine j_icmp_ge (tgt := 155) K dX4_tryOrders_90 rfl (by omega) (by omega) (fun c_90 => ?_) (fun c_90 => ?_)
        · exact absurd c_90 (by omega)
        · refine z_aload_n K dX4_tryOrders_93 rfl rfl rfl ?_
          refine t_geta K fd_X4_9_0 rfl dX4_tryOrders_94 ?_
          refine j_bipush K dX4_tryOrders_97 (by decide +kernel) ?_
          refine z_iload K dX4_tryOrders_99 rfl ?_
          refine j_iadd K dX4_tryOrders_101 ?_
          refine t_ild K 0 203 rfl rfl rfl (by omega) (by omega) rfl dX4_tryOrders_102 ?_
          rw [emc]
          refine z_iload_n K dX4_tryOrders_103 rfl rfl ?_
          refine j_icmp_ne (tgt := 149) K dX4_tryOrders_104 rfl (by omega) (by omega) (fun c_104 => ?_) (fun c_104 => ?_)
          · have zz := skip (Or.inl c_104)
            try rw [Int.toNat_natCast]
            refine j_iinc K dX4_tryOrders_149 rfl (by decide) rfl ?_
            refine z_goto (tgt := 82) K dX4_tryOrders_152 rfl ?_
            exact zz _ ⟨rfl, rfl, rfl, rfl, trivial⟩
          · refine z_aload_n K dX4_tryOrders_107 rfl rfl rfl ?_
            refine t_geta K fd_X4_52_0 rfl dX4_tryOrders_108 ?_
            refine z_iload K dX4_tryOrders_111 rfl ?_
            refine t_zld K 22 20 rfl rfl rfl (by omega) (by omega) rfl dX4_tryOrders_113 ?_
            rw [Int.toNat_natCast, W22]
            refine j_if_ne (tgt := 149) K dX4_tryOrders_114 rfl (by omega) (fun c_114 => ?_) (fun c_114 => ?_)
            · have zz := skip (Or.inr (by omega))
              try rw [Int.toNat_natCast]
              refine j_iinc K dX4_tryOrders_149 rfl (by decide) rfl ?_
              refine z_goto (tgt := 82) K dX4_tryOrders_152 rfl ?_
              exact zz _ ⟨rfl, rfl, rfl, rfl, trivial⟩
            · refine z_aload_n K dX4_tryOrders_117 rfl rfl rfl ?_
              refine t_geta K fd_X4_52_0 rfl dX4_tryOrders_118 ?_
              refine z_iload K dX4_tryOrders_121 rfl ?_
              refine j_iconst K dX4_tryOrders_123 ?_
              refine t_zst K 22 20 rfl rfl rfl (by omega) (by omega) rfl (by decide +kernel) dX4_tryOrders_124 ?_
              rw [Int.toNat_natCast]
              refine z_aload_n K dX4_tryOrders_125 rfl rfl rfl ?_
              refine z_iload_n K dX4_tryOrders_126 rfl rfl ?_
              refine z_iload_n K dX4_tryOrders_127 rfl rfl ?_
              refine z_iload K dX4_tryOrders_128 rfl ?_
              refine t_callv K (tw_setOrdered (by omega) (by omega)) cV_X4_114_X4 rfl rfl (by omega) (Nat.le_of_ble_eq_true rfl) (Nat.le_refl _) (Nat.le_refl _) dX4_tryOrders_130 ?_
              rintro _ rfl
              rw [show (183 + 5 * (m : Int) + (p : Int)).toNat = 183 + 5 * m + p by omega]
              refine z_aload_n K dX4_tryOrders_133 rfl rfl rfl ?_
              refine z_iload_n K dX4_tryOrders_134 rfl rfl ?_
              refine z_iload_n K dX4_tryOrders_135 rfl rfl ?_
              refine j_iconst K dX4_tryOrders_136 ?_
              refine j_iadd K dX4_tryOrders_137 ?_
              refine t_callv K (rec9 (by omega) (by omega)) cV_X4_249_X4 rfl rfl (by omega) (Nat.le_of_ble_eq_true rfl) (Nat.le_refl _) (Nat.le_refl _) dX4_tryOrders_138 ?_
              rintro W' hQ
              refine z_aload_n K dX4_tryOrders_141 rfl rfl rfl ?_
              have zz := back (by omega) W' hQ
              refine t_geta K fd_X4_52_0 rfl dX4_tryOrders_142 ?_
              refine z_iload K dX4_tryOrders_145 rfl ?_
              refine j_iconst K dX4_tryOrders_147 ?_
              refine t_zst K 22 20 rfl rfl rfl (by omega) (by omega) rfl (by decide +kernel) dX4_tryOrders_148 ?_
              try rw [Int.toNat_natCast]
              refine j_iinc K dX4_tryOrders_149 rfl (by decide) rfl ?_
              refine z_goto (tgt := 82) K dX4_tryOrders_152 rfl ?_
              exact zz _ ⟨rfl, rfl, rfl, rfl, trivial⟩
    have eon : w 0 (179 + (m : Int)).toNat = n := by rw [w0, sPut_lo (by omega)]; exact hn
    have go := loop (s 1).toNat 0 (by omega) w c (fun _ _ => rfl) w0 (fun _ _ => rfl) hbm (hb.c fun c' hc' => ⟨fun z => Or.inl z, fun z => z.resolve_right fun y => by have := (hc'.1 p (by omega)).1.1; have := y.2; omega⟩)
    clear ih loop
    refine z_aload_n K dX4_tryOrders_0 rfl rfl rfl ?_
    refine t_geta K fd_X4_9_0 rfl dX4_tryOrders_1 ?_
    refine j_sipush K dX4_tryOrders_4 (by decide +kernel) ?_
    refine z_iload_n K dX4_tryOrders_7 rfl rfl ?_
    refine j_iadd K dX4_tryOrders_8 ?_
    refine t_ild K 0 203 rfl rfl rfl (by omega) (by omega) rfl dX4_tryOrders_9 ?_
    rw [eon]
    refine z_istore_n K dX4_tryOrders_10 rfl (by decide) rfl ?_
    refine z_iload_n K dX4_tryOrders_11 rfl rfl ?_
    refine z_iload_n K dX4_tryOrders_12 rfl rfl ?_
    refine j_icmp_ne (tgt := 79) K dX4_tryOrders_13 rfl (by omega) (by omega) (fun c_13 => ?_) (fun c_13 => ?_)
    · refine j_iconst K dX4_tryOrders_79 ?_
      refine z_istore K dX4_tryOrders_80 (by decide) rfl ?_
      exact go _ ⟨rfl, rfl, rfl, rfl, trivial⟩
    · exact absurd c_13 (by omega)

