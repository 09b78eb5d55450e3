/-! ===== the reference: slack, the critical path ===== -/
theorem Tp.held {s o : Nat → Int} {hu : Int} {rd st : Nat → Int} (h : Tp s o (-1) hu rd st) {k : Int} (k0 : 0 ≤ k) : Tp s o k (st k.toNat) rd st := by
  intro l l0 l1 hl
  obtain ⟨a1, a2, a3, a4⟩ := h l l0 l1 hl
  refine ⟨a1, a2, a3, ?_⟩
  unfold sFrom at a4 ⊢
  rw [if_neg (by omega)] at a4
  by_cases q : l = k
  · subst q
    rw [if_pos rfl, Int.max_eq_right a4.1]
    exact ⟨Int.le_refl _, a4.2.1, fun t t0 t1 => by omega⟩
  · rw [if_neg q]
    exact a4
/-- the makespan is that of the orders, whoever computes it -/
theorem mkS_uniq {s o : Nat → Int} {hd hu : Int} {rd st rd' st' : Nat → Int} (hA : WfA s) (hO : WfO s) (h : Tp s o hd hu rd st) (hq : Tq s o st) (g : Tp s o hd hu rd' st') (gq : Tq s o st') : mkS s st = mkS s st' := by
  have h20 := hA.2.1.1
  have e1 : ∀ i : Nat, i < (s 1).toNat → 0 ≤ st i → st' i = st i := fun i hi hs => by
    have := (h.uniq hA hO g gq ((st i).toNat + 1) (i : Int) (by omega) (by omega) (by rw [Int.toNat_natCast]; exact hs) (by rw [Int.toNat_natCast]; omega)).1
    rwa [Int.toNat_natCast] at this
  have e2 : ∀ i : Nat, i < (s 1).toNat → 0 ≤ st' i → st i = st' i := fun i hi hs => by
    have := (g.uniq hA hO h hq ((st' i).toNat + 1) (i : Int) (by omega) (by omega) (by rw [Int.toNat_natCast]; exact hs) (by rw [Int.toNat_natCast]; omega)).1
    rwa [Int.toNat_natCast] at this
  have ec : cntU st (s 1).toNat = cntU st' (s 1).toNat := cntU_ext fun i hi => by
    constructor
    · intro q
      rcases Int.lt_or_le (st' i) 0 with c | c
      · exact c
      · have := e2 i hi c; omega
    · intro q
      rcases Int.lt_or_le (st i) 0 with c | c
      · exact c
      · have := e1 i hi c; omega
  unfold mkS
  rw [← ec]
  split
  · rfl
  · next q =>
    have hall := cntU_0.mp (show cntU st (s 1).toNat = 0 by have := cntU_r st (s 1).toNat; omega)
    have : ∀ n : Nat, n ≤ (s 1).toNat → gEnd s st n = gEnd s st' n := by
      intro n
      induction n with
      | zero => intro _; rfl
      | succ n ih =>
        intro hn
        unfold gEnd
        rw [ih (by omega), e1 n (by omega) (hall n (by omega))]
    exact this _ (Nat.le_refl _)
/-- v is the slack of k: the greatest delay up to 60 that leaves the makespan -/
def isSlack (s o : Nat → Int) (k v : Int) : Prop := ∃ rd st, Tp s o (-1) 0 rd st ∧ Tq s o st ∧ (0 ≤ v ∧ v ≤ 60) ∧ (∃ rd' st', Tp s o k (st k.toNat + v) rd' st' ∧ Tq s o st' ∧ mkS s st' = mkS s st) ∧ ∀ x : Int, v < x → x ≤ 60 → ∃ rd' st', Tp s o k (st k.toNat + x) rd' st' ∧ Tq s o st' ∧ mkS s st' ≠ mkS s st
theorem Tp.hu {s o : Nat → Int} {hu hu' : Int} {rd st : Nat → Int} (h : Tp s o (-1) hu rd st) : Tp s o (-1) hu' rd st := by
  intro l l0 l1 hl
  obtain ⟨a1, a2, a3, a4⟩ := h l l0 l1 hl
  refine ⟨a1, a2, a3, ?_⟩
  unfold sFrom at a4 ⊢
  rw [if_neg (by omega)] at a4 ⊢
  exact a4
theorem wt_tset {w : tW} {rd st : Nat → Int} {f i : Nat} {v : Int} (h1 : f ≠ 11) (h2 : f ≠ 12) : tset (wt w rd st) f i v = wt (tset w f i v) rd st := by
  funext g j
  unfold tset wt
  by_cases q1 : g = 11
  · simp [q1, Ne.symm h1]
  · by_cases q2 : g = 12
    · simp [q2, Ne.symm h2]
    · simp [q1, q2]
theorem tset_w {w : tW} {f i : Nat} : tset w f i (w f i) = w := by
  funext g j
  unfold tset
  split
  · next q => rw [q.1, q.2]
  · rfl
theorem tset_t {w : tW} {f i : Nat} {u v : Int} : tset (tset w f i u) f i v = tset w f i v := by
  funext g j
  unfold tset
  split <;> simp [*]
noncomputable def tcSlack (w : tW) (k : Int) : Int := if 0 ≤ k ∧ k ≤ w 0 1 - 1 then 0 else 1
/-- the world of the reference while it tries a delay -/
def wh (w : tW) (hd hu : Int) : tW := tset (tset w 14 0 hd) 15 0 hu
theorem tw_slack {w : tW} {k : Int} (hk : -2147483648 ≤ k ∧ k ≤ 2147483647) (hI : TI w) (hac : ∀ rd st, fT w 500 rd st → cntU st (w 0 1).toNat = 0) :
    tMi yX4_slack cX4_slack 6 .int 7 [.int (iI k)] w (pubQ w (tcSlack w k) (fun v w' => isSlack (w 0) (w 13) k v ∧ ∃ rd st hu, (0 ≤ hu ∧ hu ≤ 3000) ∧ w' = tset (wt (tset (tset (tset w 3 0 0) 14 0 k) 15 0 hu) rd st) 14 0 (-1))) := by
  refine zMet.of (by decide) (Nat.le_of_ble_eq_true rfl) fun X K => ?_
  have h20 := hI.1.2.1.1
  have hA := hI.1
  have hO := hI.2.1
  have mkr : ∀ st : Nat → Int, (∀ i : Nat, (i : Int) < w 0 1 → -1 ≤ st i ∧ st i ≤ 4000) → -1 ≤ mkS (w 0) st ∧ mkS (w 0) st ≤ 5000 := fun st hs => by
    have := gEnd_r hA (st := st) (n := (w 0 1).toNat) (by omega) hs
    unfold mkS
    split <;> omega
  have lp0 : ∀ rd st, fT w 500 rd st → (0 ≤ k ∧ k < w 0 1) → tcSlack w k = 0 → ∀ env, zsub env [(0, .ref 1000), (1, .int (iI k)), (2, .int (iI (mkS (w 0) st))), (3, .int (iI (st k.toNat))), (4, .int (iI 61)), (5, .int (iI (-1)))] → zW X (zPi fun x h' => ∃ v9 w', x = iI v9 ∧ h' = tH w' ∧ pubQ w (tcSlack w k) (fun v w' => isSlack (w 0) (w 13) k v ∧ ∃ rd st hu, (0 ≤ hu ∧ hu ≤ 3000) ∧ w' = tset (wt (tset (tset (tset w 3 0 0) 14 0 k) 15 0 hu) rd st) 14 0 (-1)) v9 w') (tH (tset (wt (tset w 3 0 0) rd st) 14 0 k)) 0 0 50 env [] := by
    intro rd st hT h7 ht env he
    have hc0 := hac rd st hT
    have hpl := cntU_0.mp hc0
    have hb := hT.2.2 k.toNat (by omega)
    have hb0 := hpl k.toNat (by omega)
    have hTp : Tp (w 0) (w 13) (-1) 0 rd st := by have := hT.1; rw [hI.2.2.2.1] at this; exact this.hu
    have his : mkS (w 0) st = gEnd (w 0) st (w 0 1).toNat := by unfold mkS; rw [if_neg (by omega)]
    have hisr := gEnd_r hA (st := st) (n := (w 0 1).toNat) (by omega) (fun i hi => by have := hT.2.2 i hi; omega)
    have loop : ∀ (n : Nat) (g now : Int) (r1 s1 : Nat → Int) (hu : Int), g = n → g ≤ 61 → (0 ≤ hu ∧ hu ≤ 3000) → ((g = 61 ∧ now = -1) ∨ (g ≤ 60 ∧ ∃ rd' st', Tp (w 0) (w 13) k (st k.toNat + g) rd' st' ∧ Tq (w 0) (w 13) st' ∧ now = mkS (w 0) st')) → (-1 ≤ now ∧ now ≤ 5000) → (∀ x : Int, g < x → x ≤ 60 → ∃ rd' st', Tp (w 0) (w 13) k (st k.toNat + x) rd' st' ∧ Tq (w 0) (w 13) st' ∧ mkS (w 0) st' ≠ mkS (w 0) st) → ∀ env, zsub env [(0, .ref 1000), (1, .int (iI k)), (2, .int (iI (mkS (w 0) st))), (3, .int (iI (st k.toNat))), (4, .int (iI g)), (5, .int (iI now))] → zW X (zPi fun x h' => ∃ v9 w', x = iI v9 ∧ h' = tH w' ∧ pubQ w (tcSlack w k) (fun v w' => isSlack (w 0) (w 13) k v ∧ ∃ rd st hu, (0 ≤ hu ∧ hu ≤ 3000) ∧ w' = tset (wt (tset (tset (tset w 3 0 0) 14 0 k) 15 0 hu) rd st) 14 0 (-1)) v9 w') (tH (wt (tset (tset (tset w 3 0 0) 14 0 k) 15 0 hu) r1 s1)) 0 0 50 env [] := by
      intro n
      induction n with
      | zero =>
        intro g now r1 s1 hu hg hg1 hhu hst hnr hx env he
        obtain rfl : g = 0 := by omega
        obtain ⟨-, rd', st', t1, t2, t3⟩ := hst.resolve_left (by omega)
        have hnow : now = mkS (w 0) st := by
          rw [t3]
          refine mkS_uniq (rd' := rd) hA hO t1 t2 ?_ hT.2.1
          rw [Int.add_zero]
          exact hTp.held h7.1
        refine zW.cut he ?_
        refine z_iload K dX4_slack_50 rfl ?_
        refine z_iload_n K dX4_slack_52 rfl rfl ?_
        refine j_icmp_eq (tgt := 76) K dX4_slack_53 rfl (by omega) (by omega) (fun c_53 => ?_) (fun c_53 => ?_)
        · refine z_aload_n K dX4_slack_76 rfl rfl rfl ?_
          refine j_iconst K dX4_slack_77 ?_
          refine t_puti K fd_X4_36_0 ⟨_, rfl, Or.inl rfl⟩ (by decide) rfl rfl dX4_slack_78 ?_
          refine z_iload K dX4_slack_81 rfl ?_
          exact t_iret K (Nat.le_refl _) (Nat.le_refl _) (⟨fun q => ⟨⟨rd, st, hTp, hT.2.1, by omega, ⟨rd', st', t1, t2, by rw [← t3, hnow]⟩, hx⟩, r1, s1, hu, hhu, rfl⟩, fun q => absurd ht q⟩) dX4_slack_83
        · exact absurd hnow c_53
      | succ n ih =>
        intro g now r1 s1 hu hg hg1 hhu hst hnr hx env he
        refine zW.cut he ?_
        have e15 : tset (wt (tset (tset (tset w 3 0 0) 14 0 k) 15 0 hu) r1 s1) 15 0 (st k.toNat + (g + -1)) = wt (tset (tset (tset w 3 0 0) 14 0 k) 15 0 (st k.toNat + (g + -1))) r1 s1 := by rw [wt_tset (by decide) (by decide), tset_t]
        refine z_iload K dX4_slack_50 rfl ?_
        refine z_iload_n K dX4_slack_52 rfl rfl ?_
        refine j_icmp_eq (tgt := 76) K dX4_slack_53 rfl (by omega) (by omega) (fun c_53 => ?_) (fun c_53 => ?_)
        · rcases hst with ⟨q1, q2⟩ | ⟨q1, rd', st', t1, t2, t3⟩; exact absurd c_53 (by omega)
          refine z_aload_n K dX4_slack_76 rfl rfl rfl ?_
          refine j_iconst K dX4_slack_77 ?_
          refine t_puti K fd_X4_36_0 ⟨_, rfl, Or.inl rfl⟩ (by decide) rfl rfl dX4_slack_78 ?_
          refine z_iload K dX4_slack_81 rfl ?_
          exact t_iret K (Nat.le_refl _) (Nat.le_refl _) (⟨fun q => ⟨⟨rd, st, hTp, hT.2.1, by omega, ⟨rd', st', t1, t2, by rw [← t3, c_53]⟩, hx⟩, r1, s1, hu, hhu, rfl⟩, fun q => absurd ht q⟩) dX4_slack_83
        · refine j_iinc K dX4_slack_56 rfl (by decide) rfl ?_
          refine z_aload_n K dX4_slack_59 rfl rfl rfl ?_
          refine z_iload_n K dX4_slack_60 rfl rfl ?_
          refine z_iload K dX4_slack_61 rfl ?_
          refine j_iadd K dX4_slack_63 ?_
          refine t_puti K fd_X4_175_0 ⟨_, rfl, Or.inl rfl⟩ (by decide) rfl rfl dX4_slack_64 ?_
          rw [e15]
          refine z_aload_n K dX4_slack_67 rfl rfl rfl ?_
          refine t_calli K (tw_makespanNow (w := wt (tset (tset (tset w 3 0 0) 14 0 k) 15 0 (st k.toNat + (g + -1))) r1 s1) (bb := 1400) (by omega) (Or.inr (by show st k.toNat + (g + -1) ≤ 1400; omega)) hA hO hI.ho (by show -1 ≤ k ∧ k ≤ 100; omega) (by show 0 ≤ st k.toNat + (g + -1) ∧ st k.toNat + (g + -1) ≤ 3000; omega)) cV_X4_188_X4 rfl rfl (by decide) (Nat.le_of_ble_eq_true rfl) (Nat.le_refl _) (Nat.le_refl _) dX4_slack_68 ?_
          rintro _ _ ⟨r2, s2, rfl, hT2, rfl⟩
          rw [wt_w]
          refine z_istore K dX4_slack_71 (by decide) rfl ?_
          refine z_goto (tgt := 50) K dX4_slack_73 rfl ?_
          exact ih (g + -1) _ r2 s2 _ (by omega) (by omega) (by omega) (Or.inr ⟨by omega, r2, s2, hT2.1, hT2.2.1, rfl⟩) (mkr s2 (fun i hi => by have := hT2.2.2 i hi; exact ⟨this.1, by omega⟩)) (fun x x0 x1 => by rcases (by omega : x = g ∨ g < x) with q | q; (subst q; obtain ⟨-, rd', st', t1, t2, t3⟩ := hst.resolve_left (by omega); exact ⟨rd', st', t1, t2, by rw [← t3]; exact c_53⟩); exact hx x q x1) _ ⟨rfl, rfl, rfl, rfl, rfl, rfl, trivial⟩
    have l9 := loop 61 61 (-1) rd st (w 15 0) rfl (by omega) hI.2.2.2.2.1 (Or.inl ⟨rfl, rfl⟩) (by omega) (fun x x0 x1 => by omega) env he
    have e9 : wt (tset (tset (tset w 3 0 0) 14 0 k) 15 0 (w 15 0)) rd st = tset (wt (tset w 3 0 0) rd st) 14 0 k := by
      rw [wt_tset (by decide) (by decide)]
      congr 1
      exact tset_w (w := tset (tset w 3 0 0) 14 0 k) (f := 15) (i := 0)
    rw [e9] at l9
    exact l9
  have tail : ∀ t : Int, t = tcSlack w k → 0 ≤ t ∧ t ≤ 3 → (t = 0 → (0 ≤ k ∧ k < w 0 1)) → ∀ env, zsub env [(0, .ref 1000), (1, .int (iI k))] → zW X (zPi fun x h' => ∃ v9 w', x = iI v9 ∧ h' = tH w' ∧ pubQ w (tcSlack w k) (fun v w' => isSlack (w 0) (w 13) k v ∧ ∃ rd st hu, (0 ≤ hu ∧ hu ≤ 3000) ∧ w' = tset (wt (tset (tset (tset w 3 0 0) 14 0 k) 15 0 hu) rd st) 14 0 (-1)) v9 w') (tH w) 0 0 14 env [.int (iI t), .ref 1000] := by
    intro t ht hr h5 env he
    refine zW.cut he ?_
    have lp := lp0
    refine t_puti K fd_X4_79_0 ⟨_, rfl, Or.inl rfl⟩ (by decide) rfl rfl dX4_slack_14 ?_
    refine z_aload_n K dX4_slack_17 rfl rfl rfl ?_
    refine t_geti K fd_X4_79_0 (by decide) rfl dX4_slack_18 ?_
    refine j_if_le (tgt := 26) K dX4_slack_21 rfl (by rw [tset_s]; omega) (fun c_21 => ?_) (fun c_21 => ?_)
    · rw [tset_s] at c_21
      obtain rfl : t = 0 := by omega
      have h7 := h5 rfl
      refine z_aload_n K dX4_slack_26 rfl rfl rfl ?_
      refine t_calli K (tw_makespanNow (w := tset w 3 0 0) (bb := 500) (by omega) (Or.inl hI.2.2.2.1) hI.1 hI.2.1 hI.ho (by show -1 ≤ w 14 0 ∧ w 14 0 ≤ 100; rw [hI.2.2.2.1]; omega) hI.2.2.2.2.1) cV_X4_188_X4 rfl rfl (by decide) (Nat.le_of_ble_eq_true rfl) (Nat.le_refl _) (Nat.le_refl _) dX4_slack_27 ?_
      rintro _ _ ⟨rd, st, rfl, hT, rfl⟩
      refine z_istore_n K dX4_slack_30 rfl (by decide) rfl ?_
      refine z_aload_n K dX4_slack_31 rfl rfl rfl ?_
      refine t_geta K fd_X4_29_0 rfl dX4_slack_32 ?_
      refine z_iload_n K dX4_slack_35 rfl rfl ?_
      refine t_ild K 12 20 rfl rfl rfl (by omega) (by omega) rfl dX4_slack_36 ?_
      refine z_istore_n K dX4_slack_37 rfl (by decide) rfl ?_
      refine j_bipush K dX4_slack_38 (by decide +kernel) ?_
      refine z_istore K dX4_slack_40 (by decide) rfl ?_
      refine j_iconst K dX4_slack_42 ?_
      refine z_istore K dX4_slack_43 (by decide) rfl ?_
      refine z_aload_n K dX4_slack_45 rfl rfl rfl ?_
      refine z_iload_n K dX4_slack_46 rfl rfl ?_
      refine t_puti K fd_X4_36_0 ⟨_, rfl, Or.inl rfl⟩ (by decide) rfl rfl dX4_slack_47 ?_
      exact lp rd st hT h7 ht.symm _ ⟨rfl, rfl, rfl, rfl, rfl, rfl, trivial⟩
    · rw [tset_s] at c_21
      refine j_iconst K dX4_slack_24 ?_
      exact t_iret K (Nat.le_refl _) (Nat.le_refl _) (⟨fun q => by omega, fun q => by rw [ht]⟩) dX4_slack_25
  refine z_aload_n K dX4_slack_0 rfl rfl rfl ?_
  refine z_aload_n K dX4_slack_1 rfl rfl rfl ?_
  refine z_iload_n K dX4_slack_2 rfl rfl ?_
  refine t_callp K (tw_isOperation (by omega) (by omega)) cV_X4_135_X4 rfl rfl (by decide) (Nat.le_of_ble_eq_true rfl) (Nat.le_refl _) (Nat.le_refl _) dX4_slack_3 ?_
  refine j_if_eq (tgt := 13) K dX4_slack_6 rfl (b01r _) (fun c_6 => ?_) (fun c_6 => ?_)
  · rw [bI_eq] at c_6
    refine j_iconst K dX4_slack_13 ?_
    exact tail _ (by unfold tcSlack; simp [*]) (by omega) (by omega) _ ⟨rfl, rfl, trivial⟩
  · rw [bI_ne] at c_6
    refine j_iconst K dX4_slack_9 ?_
    refine z_goto (tgt := 14) K dX4_slack_10 rfl ?_
    exact tail _ (by unfold tcSlack; simp [*]) (by omega) (by omega) _ ⟨rfl, rfl, trivial⟩

