/-! ===== the reference: path, blocks, failures ===== -/
/-- the path's world: n operations, the last one first -/
def PW (w w' : tW) (rd st : Nat → Int) : Prop := fT w 500 rd st ∧ Fr [3, 11, 12, 16, 17] w w' ∧ w' 11 = rd ∧ w' 12 = st ∧ w' 17 0 = (pthS (w 0) (w 13) rd st).length ∧ (pthS (w 0) (w 13) rd st).length ≤ 20 ∧ ∀ i : Nat, i < (pthS (w 0) (w 13) rd st).length → (pthS (w 0) (w 13) rd st)[i]? = some (w' 16 i) ∧ 0 ≤ w' 16 i ∧ w' 16 i < w 0 1
theorem tw_onPath {w : tW} {i : Int} (h0 : 0 ≤ w 17 0 - 1 - i) (h1 : w 17 0 - 1 - i < 20) : tMi yX4_onPath cX4_onPath 2 .int 1 [.int (iI i)] w (fun v w' => v = w 16 (w 17 0 - 1 - i).toNat ∧ w' = w) := by
  refine zMet.of (by decide) (Nat.le_of_ble_eq_true rfl) fun X K => ?_
  refine z_aload_n K dX4_onPath_0 rfl rfl rfl ?_
  refine t_geta K fd_X4_40_0 rfl dX4_onPath_1 ?_
  refine z_aload_n K dX4_onPath_4 rfl rfl rfl ?_
  refine t_geti K fd_X4_199_0 (by decide) rfl dX4_onPath_5 ?_
  refine j_iconst K dX4_onPath_8 ?_
  refine j_isub K dX4_onPath_9 ?_
  refine z_iload_n K dX4_onPath_10 rfl rfl ?_
  refine j_isub K dX4_onPath_11 ?_
  refine t_ild K 16 20 rfl rfl rfl (by omega) (by omega) rfl dX4_onPath_12 ?_
  exact t_iret K (Nat.le_refl _) (Nat.le_refl _) (⟨rfl, rfl⟩) dX4_onPath_13
/-- the path's world behind findPath, with thrown as it was -/
theorem tw_path0 {w : tW} (hI : TI w) (hac : ∀ rd st, fT w 500 rd st → cntU st (w 0 1).toNat = 0) : tMv yX4_findPath cX4_findPath 5 6 [] w (fun w' => ∃ rd st, PW w w' rd st ∧ w' 3 = w 3) := by
  have h := tw_findPath (w := w) (bb := 500) (by omega) (Or.inl hI.2.2.2.1) hI.1 hI.2.1 hI.ho (by rw [hI.2.2.2.1]; omega) hI.2.2.2.2.1 hac
  have e : ∀ P Q : tW → Prop, (∀ x, P x → Q x) → tMv yX4_findPath cX4_findPath 5 6 [] w P → tMv yX4_findPath cX4_findPath 5 6 [] w Q := by
    intro P Q hPQ hM l D dA r0 A as' h1 h2 p e h3 h4 h5 s m args below h6 h7 h8 h9
    obtain ⟨o, t, a1, a2, a3, a4⟩ := hM l D dA r0 A as' h1 h2 p e h3 h4 h5 s m args below h6 h7 h8 h9
    refine ⟨o, t, a1, a2, a3, ?_⟩
    rcases a4 with ⟨v, v', r', h', b1, b2, ⟨b3, w', b4, b5⟩, b6⟩ | ⟨n, q, r', h', E, ce, L, b1, b2, ⟨b3, b4⟩, b5⟩
    · exact Or.inl ⟨v, v', r', h', b1, b2, ⟨b3, w', b4, hPQ w' b5⟩, b6⟩
    · cases b3
  refine e _ _ (fun x hx => ?_) h
  obtain ⟨rd, st, a1, a2, a3⟩ := hx
  exact ⟨rd, st, ⟨a1, a2.mono (by decide), a3⟩, a2 3 (by decide)⟩
theorem zMet.mono {y : MethodName} {ws : List Cond} {d : Nat} {as : List Value} {h : zH} {Q Q' : zO → zH → Prop} {mc ms : Nat} (hq : ∀ o h, Q o h → Q' o h) (hM : zMet y ws d as h Q mc ms) : zMet y ws d as h Q' mc ms := by
  intro l D dA r0 A as' h1 h2 p e h3 h4 h5 s m args below h6 h7 h8 h9
  obtain ⟨o, t, a1, a2, a3, a4⟩ := hM l D dA r0 A as' h1 h2 p e h3 h4 h5 s m args below h6 h7 h8 h9
  refine ⟨o, t, a1, a2, a3, ?_⟩
  rcases a4 with ⟨v, v', r', h', b1, b2, b3, b6⟩ | ⟨n, q, r', h', E, ce, L, b1, b2, b3, b5⟩
  · exact Or.inl ⟨v, v', r', h', b1, b2, hq _ _ b3, b6⟩
  · exact Or.inr ⟨n, q, r', h', E, ce, L, b1, b2, hq _ _ b3, b5⟩
theorem tMi.mono {y : MethodName} {cc : ByteArray} {nL : Nat} {rt : FieldType} {d : Nat} {as : List Value} {w : tW} {P Q : Int → tW → Prop} (hq : ∀ v w, P v w → Q v w) (hM : tMi y cc nL rt d as w P) : tMi y cc nL rt d as w Q :=
  zMet.mono (fun _ _ ⟨x, e, v, w', e1, e2, hp⟩ => ⟨x, e, v, w', e1, e2, hq _ _ hp⟩) hM
theorem tMv.mono {y : MethodName} {cc : ByteArray} {nL : Nat} {d : Nat} {as : List Value} {w : tW} {P Q : tW → Prop} (hq : ∀ w, P w → Q w) (hM : tMv y cc nL d as w P) : tMv y cc nL d as w Q :=
  zMet.mono (fun _ _ ⟨e, w', e2, hp⟩ => ⟨e, w', e2, hq _ hp⟩) hM
theorem PW.set {w w' : tW} {rd st : Nat → Int} (h : PW w w' rd st) {v : Int} : PW w (tset w' 3 0 v) rd st := by
  obtain ⟨a1, a2, a3, a4, a5, a6, a7⟩ := h
  have e : ∀ g, g ≠ 3 → tset w' 3 0 v g = w' g := fun g hg => by funext j; exact tset_f hg
  exact ⟨a1, a2.set (by decide), by rw [e 11 (by decide)]; exact a3, by rw [e 12 (by decide)]; exact a4, by rw [e 17 (by decide)]; exact a5, a6, by rw [e 16 (by decide)]; exact a7⟩
theorem PW.from {w w' : tW} {rd st : Nat → Int} {v : Int} (h : PW (tset w 3 0 v) w' rd st) : PW w w' rd st := by
  obtain ⟨a1, a2, a3⟩ := h
  refine ⟨a1, fun f hf => ?_, a3⟩
  rw [a2 f hf]
  funext j
  exact tset_f (fun e => hf (by rw [e]; decide))
theorem tw_pathLength {w : tW} (hI : TI w) (hac : ∀ rd st, fT w 500 rd st → cntU st (w 0 1).toNat = 0) : tMi yX4_pathLength cX4_pathLength 1 .int 7 [] w (fun v w' => ∃ rd st, PW w w' rd st ∧ w' 3 0 = 0 ∧ v = (pthS (w 0) (w 13) rd st).length) := by
  refine zMet.of (by decide) (Nat.le_of_ble_eq_true rfl) fun X K => ?_
  have hI' : TI (tset w 3 0 0) := hI.set (by decide) (by decide) (by decide) (by decide) (by decide)
  refine z_aload_n K dX4_pathLength_0 rfl rfl rfl ?_
  refine j_iconst K dX4_pathLength_1 ?_
  refine t_puti K fd_X4_79_0 ⟨_, rfl, Or.inl rfl⟩ (by decide) rfl rfl dX4_pathLength_2 ?_
  refine z_aload_n K dX4_pathLength_5 rfl rfl rfl ?_
  refine t_callv K (tw_path0 hI' hac) cV_X4_202_X4 rfl rfl (by decide) (Nat.le_of_ble_eq_true rfl) (Nat.le_refl _) (Nat.le_refl _) dX4_pathLength_6 ?_
  rintro w1 ⟨rd, st, hP, h3⟩
  refine z_aload_n K dX4_pathLength_9 rfl rfl rfl ?_
  refine t_geti K fd_X4_199_0 (by decide) rfl dX4_pathLength_10 ?_
  exact t_iret K (Nat.le_refl _) (Nat.le_refl _) (⟨rd, st, hP.from, by rw [h3]; rfl, hP.2.2.2.2.1⟩) dX4_pathLength_13
noncomputable def tcPath (n i : Int) : Int := if 0 ≤ i ∧ i ≤ n - 1 then 0 else 1
theorem tw_path {w : tW} {i : Int} (hi : -2147483648 ≤ i ∧ i ≤ 2147483647) (hI : TI w) (hac : ∀ rd st, fT w 500 rd st → cntU st (w 0 1).toNat = 0) : tMi yX4_path cX4_path 2 .int 7 [.int (iI i)] w (fun v w' => ∃ rd st, PW w w' rd st ∧ w' 3 0 = tcPath (pthS (w 0) (w 13) rd st).length i ∧ (w' 3 0 = 0 → (pthS (w 0) (w 13) rd st)[((pthS (w 0) (w 13) rd st).length - 1 - i).toNat]? = some v)) := by
  refine zMet.of (by decide) (Nat.le_of_ble_eq_true rfl) fun X K => ?_
  have tail : ∀ rd st w1, PW w w1 rd st → ∀ t : Int, t = tcPath (pthS (w 0) (w 13) rd st).length i → 0 ≤ t ∧ t ≤ 1 → (t = 0 → 0 ≤ i ∧ i ≤ (pthS (w 0) (w 13) rd st).length - 1) → ∀ env, zsub env [(0, .ref 1000), (1, .int (iI i))] → zW X (zPi fun x h' => ∃ v9 w', x = iI v9 ∧ h' = tH w' ∧ ∃ rd st, PW w w' rd st ∧ w' 3 0 = tcPath (pthS (w 0) (w 13) rd st).length i ∧ (w' 3 0 = 0 → (pthS (w 0) (w 13) rd st)[((pthS (w 0) (w 13) rd st).length - 1 - i).toNat]? = some v9)) (tH w1) 0 0 26 env [.int (iI t), .ref 1000] := by
    intro rd st w1 hP t ht hr h5 env he
    refine zW.cut he ?_
    have h17 : tset w1 3 0 t 17 0 = (pthS (w 0) (w 13) rd st).length := (tset_f (by decide)).trans hP.2.2.2.2.1
    have h20 := hP.2.2.2.2.2.1
    refine t_puti K fd_X4_79_0 ⟨_, rfl, Or.inl rfl⟩ (by decide) rfl rfl dX4_path_26 ?_
    refine z_aload_n K dX4_path_29 rfl rfl rfl ?_
    refine t_geti K fd_X4_79_0 (by decide) rfl dX4_path_30 ?_
    refine j_if_le (tgt := 40) K dX4_path_33 rfl (by rw [tset_s]; omega) (fun c_33 => ?_) (fun c_33 => ?_)
    · rw [tset_s] at c_33
      obtain rfl : t = 0 := by omega
      have h7 := h5 rfl
      refine z_aload_n K dX4_path_40 rfl rfl rfl ?_
      refine z_iload_n K dX4_path_41 rfl rfl ?_
      refine t_callp K (tw_onPath (w := tset w1 3 0 0) (by rw [h17]; omega) (by rw [h17]; omega)) cV_X4_205_X4 rfl rfl (by decide) (Nat.le_of_ble_eq_true rfl) (Nat.le_refl _) (Nat.le_refl _) dX4_path_42 ?_
      (try rw [h17])
      exact t_iret K (Nat.le_refl _) (Nat.le_refl _) (⟨rd, st, hP.set, by rw [tset_s]; exact ht, fun q => by first | (rw [tset_s] at q; omega) | exact (hP.set.2.2.2.2.2.2 _ (by omega)).1⟩) dX4_path_45
    · rw [tset_s] at c_33
      refine j_iconst K dX4_path_36 ?_
      refine z_goto (tgt := 45) K dX4_path_37 rfl ?_
      (try rw [h17])
      exact t_iret K (Nat.le_refl _) (Nat.le_refl _) (⟨rd, st, hP.set, by rw [tset_s]; exact ht, fun q => by first | (rw [tset_s] at q; omega) | exact (hP.set.2.2.2.2.2.2 _ (by omega)).1⟩) dX4_path_45
  refine z_aload_n K dX4_path_0 rfl rfl rfl ?_
  refine t_callv K (tw_path0 hI hac) cV_X4_202_X4 rfl rfl (by decide) (Nat.le_of_ble_eq_true rfl) (Nat.le_refl _) (Nat.le_refl _) dX4_path_1 ?_
  rintro w1 ⟨rd, st, hP, h3⟩
  have h17 := hP.2.2.2.2.1
  have h20 := hP.2.2.2.2.2.1
  refine z_aload_n K dX4_path_4 rfl rfl rfl ?_
  refine z_iload_n K dX4_path_5 rfl rfl ?_
  refine j_i2l K (by omega) dX4_path_6 ?_
  refine j_lconst0 K dX4_path_7 ?_
  refine z_aload_n K dX4_path_8 rfl rfl rfl ?_
  refine t_geti K fd_X4_199_0 (by decide) rfl dX4_path_9 ?_
  rw [h17]
  refine j_iconst K dX4_path_12 ?_
  refine j_isub K dX4_path_13 ?_
  refine j_i2l K (by omega) dX4_path_14 ?_
  refine z_calls K (s_in (by omega) (by omega) (by omega)) cS_X4_82 rfl rfl (by decide) (Nat.le_of_ble_eq_true rfl) (Nat.le_refl _) (Nat.le_refl _) dX4_path_15 ?_
  refine j_if_eq (tgt := 25) K dX4_path_18 rfl (b01r _) (fun c_18 => ?_) (fun c_18 => ?_)
  · rw [bI_eq] at c_18
    refine j_iconst K dX4_path_25 ?_
    exact tail rd st w1 hP _ (by unfold tcPath; simp [*]) (by omega) (by omega) _ ⟨rfl, rfl, trivial⟩
  · rw [bI_ne] at c_18
    refine j_iconst K dX4_path_21 ?_
    refine z_goto (tgt := 26) K dX4_path_22 rfl ?_
    exact tail rd st w1 hP _ (by unfold tcPath; simp [*]) (by omega) (by omega) _ ⟨rfl, rfl, trivial⟩
/-- blocks: p i is the path's operation i, from its start -/
def bgI (s : Nat → Int) (p : Nat → Int) : Nat → Int
  | 0 => 1
  | i + 1 => if s (62 + p (i + 1)).toNat = s (62 + p i).toNat then 0 else 1
def blkN (s : Nat → Int) (p : Nat → Int) : Nat → Int
  | 0 => 0
  | n + 1 => blkN s p n + bgI s p n
def blkL (s : Nat → Int) (p : Nat → Int) (x : Int) : Nat → Int
  | 0 => 0
  | n + 1 => blkL s p x n + if blkN s p (n + 1) - 1 = x then 1 else 0
theorem bgI_r (s p : Nat → Int) (i : Nat) : bgI s p i = 0 ∨ bgI s p i = 1 := by
  cases i with
  | zero => exact Or.inr rfl
  | succ i => unfold bgI; split <;> omega
theorem blkN_r (s p : Nat → Int) : ∀ n : Nat, 0 ≤ blkN s p n ∧ blkN s p n ≤ n
  | 0 => by simp [blkN]
  | n + 1 => by have := blkN_r s p n; have := bgI_r s p n; unfold blkN; omega
theorem tw_beginsBlock {w : tW} {p : Nat → Int} {n i : Nat} (hn : w 17 0 = n) (h20 : n ≤ 20) (hi : i < n) (hp : ∀ j : Nat, j < n → w 16 (n - 1 - j) = p j ∧ (0 ≤ p j ∧ p j < 20) ∧ 0 ≤ w 0 (62 + p j).toNat ∧ w 0 (62 + p j).toNat ≤ 3) : tMi yX4_beginsBlock cX4_beginsBlock 2 .boolean 2 [.int (iI i)] w (fun v w' => v = bgI (w 0) p i ∧ w' = w) := by
  refine zMet.of (by decide) (Nat.le_of_ble_eq_true rfl) fun X K => ?_
  have hpi := hp i hi
  cases i with
  | zero =>
    refine z_iload_n K dX4_beginsBlock_0 rfl rfl ?_
    refine j_if_eq (tgt := 35) K dX4_beginsBlock_1 rfl (by omega) (fun c_1 => ?_) (fun c_1 => ?_)
    · refine j_iconst K dX4_beginsBlock_35 ?_
      refine z_goto (tgt := 40) K dX4_beginsBlock_36 rfl ?_
      exact t_zret K (by omega) (Nat.le_refl _) (Nat.le_refl _) (⟨rfl, rfl⟩) dX4_beginsBlock_40
    · exact absurd rfl c_1
  | succ i =>
    have hpj := hp i (by omega)
    have e1 : (w 17 0 - 1 - ((i + 1 : Nat) : Int)).toNat = n - 1 - (i + 1) := by omega
    have e2 : (w 17 0 - 1 - (((i + 1 : Nat) : Int) - 1)).toNat = n - 1 - i := by omega
    refine z_iload_n K dX4_beginsBlock_0 rfl rfl ?_
    refine j_if_eq (tgt := 35) K dX4_beginsBlock_1 rfl (by omega) (fun c_1 => ?_) (fun c_1 => ?_)
    · exact absurd c_1 (by omega)
    · refine z_aload_n K dX4_beginsBlock_4 rfl rfl rfl ?_
      refine t_geta K fd_X4_9_0 rfl dX4_beginsBlock_5 ?_
      refine j_bipush K dX4_beginsBlock_8 (by decide +kernel) ?_
      refine z_aload_n K dX4_beginsBlock_10 rfl rfl rfl ?_
      refine z_iload_n K dX4_beginsBlock_11 rfl rfl ?_
      refine t_callp K (tw_onPath (by omega) (by omega)) cV_X4_205_X4 rfl rfl (by decide) (Nat.le_of_ble_eq_true rfl) (Nat.le_refl _) (Nat.le_refl _) dX4_beginsBlock_12 ?_
      rw [e1, hpi.1]
      refine j_iadd K dX4_beginsBlock_15 ?_
      refine t_ild K 0 203 rfl rfl rfl (by omega) (by omega) rfl dX4_beginsBlock_16 ?_
      refine z_aload_n K dX4_beginsBlock_17 rfl rfl rfl ?_
      refine t_geta K fd_X4_9_0 rfl dX4_beginsBlock_18 ?_
      refine j_bipush K dX4_beginsBlock_21 (by decide +kernel) ?_
      refine z_aload_n K dX4_beginsBlock_23 rfl rfl rfl ?_
      refine z_iload_n K dX4_beginsBlock_24 rfl rfl ?_
      refine j_iconst K dX4_beginsBlock_25 ?_
      refine j_isub K dX4_beginsBlock_26 ?_
      refine t_callp K (tw_onPath (by omega) (by omega)) cV_X4_205_X4 rfl rfl (by decide) (Nat.le_of_ble_eq_true rfl) (Nat.le_refl _) (Nat.le_refl _) dX4_beginsBlock_27 ?_
      rw [e2, hpj.1]
      refine j_iadd K dX4_beginsBlock_30 ?_
      refine t_ild K 0 203 rfl rfl rfl (by omega) (by omega) rfl dX4_beginsBlock_31 ?_
      refine j_icmp_eq (tgt := 39) K dX4_beginsBlock_32 rfl (by omega) (by omega) (fun c_32 => ?_) (fun c_32 => ?_)
      · refine j_iconst K dX4_beginsBlock_39 ?_
        exact t_zret K (by omega) (Nat.le_refl _) (Nat.le_refl _) (⟨by rw [show bgI (w 0) p (i + 1) = if w 0 (62 + p (i + 1)).toNat = w 0 (62 + p i).toNat then 0 else 1 from rfl]; split <;> omega, rfl⟩) dX4_beginsBlock_40
      · refine j_iconst K dX4_beginsBlock_35 ?_
        refine z_goto (tgt := 40) K dX4_beginsBlock_36 rfl ?_
        exact t_zret K (by omega) (Nat.le_refl _) (Nat.le_refl _) (⟨by rw [show bgI (w 0) p (i + 1) = if w 0 (62 + p (i + 1)).toNat = w 0 (62 + p i).toNat then 0 else 1 from rfl]; split <;> omega, rfl⟩) dX4_beginsBlock_40
theorem tw_blockMany {w : tW} {p : Nat → Int} {n : Nat} (hn : w 17 0 = n) (h20 : n ≤ 20) (hp : ∀ j : Nat, j < n → w 16 (n - 1 - j) = p j ∧ (0 ≤ p j ∧ p j < 20) ∧ 0 ≤ w 0 (62 + p j).toNat ∧ w 0 (62 + p j).toNat ≤ 3) : tMi yX4_blockMany cX4_blockMany 3 .int 3 [] w (fun v w' => v = blkN (w 0) p n ∧ w' = w) := by
  refine zMet.of (by decide) (Nat.le_of_ble_eq_true rfl) fun X K => ?_
  have loop : ∀ (r i : Nat), i + r = n → ∀ env, zsub env [(0, .ref 1000), (1, .int (iI (blkN (w 0) p i))), (2, .int (iI i))] → zW X (zPi fun x h' => ∃ v w', x = iI v ∧ h' = tH w' ∧ (v = blkN (w 0) p n ∧ w' = w)) (tH w) 0 0 4 env [] := by
    intro r
    induction r with
    | zero =>
      intro i hi env he
      refine zW.cut he ?_
      refine z_iload_n K dX4_blockMany_4 rfl rfl ?_
      refine z_aload_n K dX4_blockMany_5 rfl rfl rfl ?_
      refine t_geti K fd_X4_199_0 (by decide) rfl dX4_blockMany_6 ?_
      rw [hn]
      refine j_icmp_ge (tgt := 34) K dX4_blockMany_9 rfl (by omega) (by omega) (fun c_9 => ?_) (fun c_9 => ?_)
      · refine z_iload_n K dX4_blockMany_34 rfl rfl ?_
        exact t_iret K (Nat.le_refl _) (Nat.le_refl _) (⟨by rw [← hi]; rfl, rfl⟩) dX4_blockMany_35
      · exact absurd c_9 (by omega)
    | succ r ih =>
      intro i hi env he
      refine zW.cut he ?_
      have hb := bgI_r (w 0) p i
      have hr := blkN_r (w 0) p i
      have fin : ∀ x : Int, x = bgI (w 0) p i → ∀ env, zsub env [(0, .ref 1000), (1, .int (iI (blkN (w 0) p i + x))), (2, .int (iI ((i : Int) + 1)))] → zW X (zPi fun x h' => ∃ v w', x = iI v ∧ h' = tH w' ∧ (v = blkN (w 0) p n ∧ w' = w)) (tH w) 0 0 4 env [] := fun x hx env he => ih (i + 1) (by omega) env (by rw [hx] at he; exact he)
      refine z_iload_n K dX4_blockMany_4 rfl rfl ?_
      refine z_aload_n K dX4_blockMany_5 rfl rfl rfl ?_
      refine t_geti K fd_X4_199_0 (by decide) rfl dX4_blockMany_6 ?_
      rw [hn]
      refine j_icmp_ge (tgt := 34) K dX4_blockMany_9 rfl (by omega) (by omega) (fun c_9 => ?_) (fun c_9 => ?_)
      · exact absurd c_9 (by omega)
      · refine z_iload_n K dX4_blockMany_12 rfl rfl ?_
        refine z_aload_n K dX4_blockMany_13 rfl rfl rfl ?_
        refine z_iload_n K dX4_blockMany_14 rfl rfl ?_
        refine t_callp K (tw_beginsBlock hn h20 (by omega) hp) cV_X4_208_X4 rfl rfl (by decide) (Nat.le_of_ble_eq_true rfl) (Nat.le_refl _) (Nat.le_refl _) dX4_blockMany_15 ?_
        refine j_if_eq (tgt := 25) K dX4_blockMany_18 rfl (by omega) (fun c_18 => ?_) (fun c_18 => ?_)
        · refine j_iconst K dX4_blockMany_25 ?_
          refine j_iadd K dX4_blockMany_26 ?_
          refine z_istore_n K dX4_blockMany_27 rfl (by decide) rfl ?_
          refine j_iinc K dX4_blockMany_28 rfl (by decide) rfl ?_
          refine z_goto (tgt := 4) K dX4_blockMany_31 rfl ?_
          exact fin _ (by omega) _ ⟨rfl, rfl, rfl, trivial⟩
        · refine j_iconst K dX4_blockMany_21 ?_
          refine z_goto (tgt := 26) K dX4_blockMany_22 rfl ?_
          refine j_iadd K dX4_blockMany_26 ?_
          refine z_istore_n K dX4_blockMany_27 rfl (by decide) rfl ?_
          refine j_iinc K dX4_blockMany_28 rfl (by decide) rfl ?_
          refine z_goto (tgt := 4) K dX4_blockMany_31 rfl ?_
          exact fin _ (by omega) _ ⟨rfl, rfl, rfl, trivial⟩
  refine j_iconst K dX4_blockMany_0 ?_
  refine z_istore_n K dX4_blockMany_1 rfl (by decide) rfl ?_
  refine j_iconst K dX4_blockMany_2 ?_
  refine z_istore_n K dX4_blockMany_3 rfl (by decide) rfl ?_
  exact loop n 0 (by omega) _ ⟨rfl, rfl, rfl, trivial⟩
/-- the path's operations from its start -/
def pthF (s o rd st : Nat → Int) (i : Nat) : Int := ((pthS s o rd st)[(pthS s o rd st).length - 1 - i]?).getD 0
theorem PW.p {w w' : tW} {rd st : Nat → Int} (hA : WfA (w 0)) (h : PW w w' rd st) : ∀ j : Nat, j < (pthS (w 0) (w 13) rd st).length → w' 16 ((pthS (w 0) (w 13) rd st).length - 1 - j) = pthF (w 0) (w 13) rd st j ∧ (0 ≤ pthF (w 0) (w 13) rd st j ∧ pthF (w 0) (w 13) rd st j < 20) ∧ 0 ≤ w' 0 (62 + pthF (w 0) (w 13) rd st j).toNat ∧ w' 0 (62 + pthF (w 0) (w 13) rd st j).toNat ≤ 3 := by
  intro j hj
  obtain ⟨a1, a2, a3, a4, a5, a6, a7⟩ := h
  obtain ⟨b1, b2, b3⟩ := a7 ((pthS (w 0) (w 13) rd st).length - 1 - j) (by omega)
  have e : pthF (w 0) (w 13) rd st j = w' 16 ((pthS (w 0) (w 13) rd st).length - 1 - j) := by unfold pthF; rw [b1]; rfl
  have h20 := hA.2.1.1
  rw [e, a2 0 (by decide)]
  exact ⟨rfl, ⟨b2, by omega⟩, (hA.2.1.2 _ b2 b3).2.1⟩
theorem tw_blocks {w : tW} (hI : TI w) (hac : ∀ rd st, fT w 500 rd st → cntU st (w 0 1).toNat = 0) : tMi yX4_blocks cX4_blocks 1 .int 7 [] w (fun v w' => ∃ rd st, PW w w' rd st ∧ w' 3 0 = 0 ∧ v = blkN (w 0) (pthF (w 0) (w 13) rd st) (pthS (w 0) (w 13) rd st).length) := by
  refine zMet.of (by decide) (Nat.le_of_ble_eq_true rfl) fun X K => ?_
  have hI' : TI (tset w 3 0 0) := hI.set (by decide) (by decide) (by decide) (by decide) (by decide)
  refine z_aload_n K dX4_blocks_0 rfl rfl rfl ?_
  refine j_iconst K dX4_blocks_1 ?_
  refine t_puti K fd_X4_79_0 ⟨_, rfl, Or.inl rfl⟩ (by decide) rfl rfl dX4_blocks_2 ?_
  refine z_aload_n K dX4_blocks_5 rfl rfl rfl ?_
  refine t_callv K (tw_path0 hI' hac) cV_X4_202_X4 rfl rfl (by decide) (Nat.le_of_ble_eq_true rfl) (Nat.le_refl _) (Nat.le_refl _) dX4_blocks_6 ?_
  rintro w1 ⟨rd, st, hP, h3⟩
  refine z_aload_n K dX4_blocks_9 rfl rfl rfl ?_
  refine t_callp K (tw_blockMany hP.2.2.2.2.1 hP.2.2.2.2.2.1 (hP.p hI.1)) cV_X4_211_X4 rfl rfl (by decide) (Nat.le_of_ble_eq_true rfl) (Nat.le_refl _) (Nat.le_refl _) dX4_blocks_10 ?_
  exact t_iret K (Nat.le_refl _) (Nat.le_refl _) (⟨rd, st, hP.from, by rw [h3]; rfl, by rw [hP.2.1 0 (by decide)]; rfl⟩) dX4_blocks_13
theorem tw_blockLength {w : tW} {x : Int} (hx : -2147483648 ≤ x ∧ x ≤ 2147483647) (hI : TI w) (hac : ∀ rd st, fT w 500 rd st → cntU st (w 0 1).toNat = 0) : tMi yX4_blockLength cX4_blockLength 5 .int 7 [.int (iI x)] w (fun v w' => ∃ rd st, PW w w' rd st ∧ w' 3 0 = tcPath (blkN (w 0) (pthF (w 0) (w 13) rd st) (pthS (w 0) (w 13) rd st).length) x ∧ (w' 3 0 = 0 → v = blkL (w 0) (pthF (w 0) (w 13) rd st) x (pthS (w 0) (w 13) rd st).length)) := by
  refine zMet.of (by decide) (Nat.le_of_ble_eq_true rfl) fun X K => ?_
  have tail : ∀ rd st w1, PW w w1 rd st → ∀ t : Int, t = tcPath (blkN (w 0) (pthF (w 0) (w 13) rd st) (pthS (w 0) (w 13) rd st).length) x → 0 ≤ t ∧ t ≤ 1 → ∀ env, zsub env [(0, .ref 1000), (1, .int (iI x))] → zW X (zPi fun x9 h' => ∃ v9 w', x9 = iI v9 ∧ h' = tH w' ∧ ∃ rd st, PW w w' rd st ∧ w' 3 0 = tcPath (blkN (w 0) (pthF (w 0) (w 13) rd st) (pthS (w 0) (w 13) rd st).length) x ∧ (w' 3 0 = 0 → v9 = blkL (w 0) (pthF (w 0) (w 13) rd st) x (pthS (w 0) (w 13) rd st).length)) (tH w1) 0 0 26 env [.int (iI t), .ref 1000] := by
    intro rd st w1 hP t ht hr env he
    refine zW.cut he ?_
    have hP2 := hP.set (v := t)
    generalize hp : pthF (w 0) (w 13) rd st = p at *
    generalize hnn : (pthS (w 0) (w 13) rd st).length = n at *
    have h17 : tset w1 3 0 t 17 0 = n := by rw [← hnn]; exact hP2.2.2.2.2.1
    have h20 : n ≤ 20 := by rw [← hnn]; exact hP2.2.2.2.2.2.1
    have hpp := hP2.p hI.1
    rw [hp, hnn] at hpp
    have h0 : tset w1 3 0 t 0 = w 0 := hP2.2.1 0 (by decide)
    have loop : t = 0 → ∀ (r i : Nat), i + r = n → ∀ env, zsub env [(0, .ref 1000), (1, .int (iI x)), (2, .int (iI (blkN (w 0) p i - 1))), (3, .int (iI (blkL (w 0) p x i))), (4, .int (iI i))] → zW X (zPi fun x9 h' => ∃ v9 w', x9 = iI v9 ∧ h' = tH w' ∧ ∃ rd st, PW w w' rd st ∧ w' 3 0 = tcPath (blkN (w 0) (pthF (w 0) (w 13) rd st) (pthS (w 0) (w 13) rd st).length) x ∧ (w' 3 0 = 0 → v9 = blkL (w 0) (pthF (w 0) (w 13) rd st) x (pthS (w 0) (w 13) rd st).length)) (tH (tset w1 3 0 t)) 0 0 45 env [] := by
      intro ht0 r
      induction r with
      | zero =>
        intro i hi env he
        refine zW.cut he ?_
        refine z_iload K dX4_blockLength_45 rfl ?_
        refine z_aload_n K dX4_blockLength_47 rfl rfl rfl ?_
        refine t_geti K fd_X4_199_0 (by decide) rfl dX4_blockLength_48 ?_
        rw [h17]
        refine j_icmp_ge (tgt := 90) K dX4_blockLength_51 rfl (by omega) (by omega) (fun c_51 => ?_) (fun c_51 => ?_)
        · refine z_iload_n K dX4_blockLength_90 rfl rfl ?_
          exact t_iret K (Nat.le_refl _) (Nat.le_refl _) (⟨rd, st, hP2, by rw [tset_s, hp, hnn]; exact ht, fun _ => by rw [hp, hnn, ← hi]; rfl⟩) dX4_blockLength_91
        · exact absurd c_51 (by omega)
      | succ r ih =>
        intro i hi env he
        refine zW.cut he ?_
        have hb := bgI_r (w 0) p i
        have hr := blkN_r (w 0) p i
        have e1 : blkN (w 0) p (i + 1) = blkN (w 0) p i + bgI (w 0) p i := rfl
        have e2 : blkL (w 0) p x (i + 1) = blkL (w 0) p x i + if blkN (w 0) p (i + 1) - 1 = x then 1 else 0 := rfl
        have fin : ∀ a b : Int, a = blkN (w 0) p (i + 1) - 1 → b = blkL (w 0) p x (i + 1) → ∀ env, zsub env [(0, .ref 1000), (1, .int (iI x)), (2, .int (iI a)), (3, .int (iI b)), (4, .int (iI ((i : Int) + 1)))] → zW X (zPi fun x9 h' => ∃ v9 w', x9 = iI v9 ∧ h' = tH w' ∧ ∃ rd st, PW w w' rd st ∧ w' 3 0 = tcPath (blkN (w 0) (pthF (w 0) (w 13) rd st) (pthS (w 0) (w 13) rd st).length) x ∧ (w' 3 0 = 0 → v9 = blkL (w 0) (pthF (w 0) (w 13) rd st) x (pthS (w 0) (w 13) rd st).length)) (tH (tset w1 3 0 t)) 0 0 45 env [] := fun a b ha hb env he => ih (i + 1) (by omega) env (by rw [ha, hb] at he; exact he)
        refine z_iload K dX4_blockLength_45 rfl ?_
        refine z_aload_n K dX4_blockLength_47 rfl rfl rfl ?_
        refine t_geti K fd_X4_199_0 (by decide) rfl dX4_blockLength_48 ?_
        rw [h17]
        refine j_icmp_ge (tgt := 90) K dX4_blockLength_51 rfl (by omega) (by omega) (fun c_51 => ?_) (fun c_51 => ?_)
        · exact absurd c_51 (by omega)
        · refine z_iload_n K dX4_blockLength_54 rfl rfl ?_
          refine z_aload_n K dX4_blockLength_55 rfl rfl rfl ?_
          refine z_iload K dX4_blockLength_56 rfl ?_
          refine t_callp K (tw_beginsBlock (w := tset w1 3 0 t) h17 h20 (by omega) hpp) cV_X4_208_X4 rfl rfl (by decide) (Nat.le_of_ble_eq_true rfl) (Nat.le_refl _) (Nat.le_refl _) dX4_blockLength_58 ?_
          rw [h0]
          refine j_if_eq (tgt := 68) K dX4_blockLength_61 rfl (by omega) (fun c_61 => ?_) (fun c_61 => ?_)
          · refine j_iconst K dX4_blockLength_68 ?_
            refine j_iadd K dX4_blockLength_69 ?_
            refine z_istore_n K dX4_blockLength_70 rfl (by decide) rfl ?_
            refine z_iload_n K dX4_blockLength_71 rfl rfl ?_
            refine z_iload_n K dX4_blockLength_72 rfl rfl ?_
            refine z_iload_n K dX4_blockLength_73 rfl rfl ?_
            refine j_icmp_ne (tgt := 81) K dX4_blockLength_74 rfl (by omega) (by omega) (fun c_74 => ?_) (fun c_74 => ?_)
            · refine j_iconst K dX4_blockLength_81 ?_
              refine j_iadd K dX4_blockLength_82 ?_
              refine z_istore_n K dX4_blockLength_83 rfl (by decide) rfl ?_
              refine j_iinc K dX4_blockLength_84 rfl (by decide) rfl ?_
              refine z_goto (tgt := 45) K dX4_blockLength_87 rfl ?_
              exact fin _ _ (by omega) (by rw [e2]; split <;> omega) _ ⟨rfl, rfl, rfl, rfl, rfl, trivial⟩
            · refine j_iconst K dX4_blockLength_77 ?_
              refine z_goto (tgt := 82) K dX4_blockLength_78 rfl ?_
              refine j_iadd K dX4_blockLength_82 ?_
              refine z_istore_n K dX4_blockLength_83 rfl (by decide) rfl ?_
              refine j_iinc K dX4_blockLength_84 rfl (by decide) rfl ?_
              refine z_goto (tgt := 45) K dX4_blockLength_87 rfl ?_
              exact fin _ _ (by omega) (by rw [e2]; split <;> omega) _ ⟨rfl, rfl, rfl, rfl, rfl, trivial⟩
          · refine j_iconst K dX4_blockLength_64 ?_
            refine z_goto (tgt := 69) K dX4_blockLength_65 rfl ?_
            refine j_iadd K dX4_blockLength_69 ?_
            refine z_istore_n K dX4_blockLength_70 rfl (by decide) rfl ?_
            refine z_iload_n K dX4_blockLength_71 rfl rfl ?_
            refine z_iload_n K dX4_blockLength_72 rfl rfl ?_
            refine z_iload_n K dX4_blockLength_73 rfl rfl ?_
            refine j_icmp_ne (tgt := 81) K dX4_blockLength_74 rfl (by omega) (by omega) (fun c_74 => ?_) (fun c_74 => ?_)
            · refine j_iconst K dX4_blockLength_81 ?_
              refine j_iadd K dX4_blockLength_82 ?_
              refine z_istore_n K dX4_blockLength_83 rfl (by decide) rfl ?_
              refine j_iinc K dX4_blockLength_84 rfl (by decide) rfl ?_
              refine z_goto (tgt := 45) K dX4_blockLength_87 rfl ?_
              exact fin _ _ (by omega) (by rw [e2]; split <;> omega) _ ⟨rfl, rfl, rfl, rfl, rfl, trivial⟩
            · refine j_iconst K dX4_blockLength_77 ?_
              refine z_goto (tgt := 82) K dX4_blockLength_78 rfl ?_
              refine j_iadd K dX4_blockLength_82 ?_
              refine z_istore_n K dX4_blockLength_83 rfl (by decide) rfl ?_
              refine j_iinc K dX4_blockLength_84 rfl (by decide) rfl ?_
              refine z_goto (tgt := 45) K dX4_blockLength_87 rfl ?_
              exact fin _ _ (by omega) (by rw [e2]; split <;> omega) _ ⟨rfl, rfl, rfl, rfl, rfl, trivial⟩
    refine t_puti K fd_X4_79_0 ⟨_, rfl, Or.inl rfl⟩ (by decide) rfl rfl dX4_blockLength_26 ?_
    refine z_aload_n K dX4_blockLength_29 rfl rfl rfl ?_
    refine t_geti K fd_X4_79_0 (by decide) rfl dX4_blockLength_30 ?_
    refine j_if_le (tgt := 38) K dX4_blockLength_33 rfl (by rw [tset_s]; omega) (fun c_33 => ?_) (fun c_33 => ?_)
    · rw [tset_s] at c_33
      refine j_iconst K dX4_blockLength_38 ?_
      refine z_istore_n K dX4_blockLength_39 rfl (by decide) rfl ?_
      refine j_iconst K dX4_blockLength_40 ?_
      refine z_istore_n K dX4_blockLength_41 rfl (by decide) rfl ?_
      refine j_iconst K dX4_blockLength_42 ?_
      refine z_istore K dX4_blockLength_43 (by decide) rfl ?_
      exact loop (by omega) n 0 (by omega) _ ⟨rfl, rfl, rfl, rfl, rfl, trivial⟩
    · rw [tset_s] at c_33
      refine j_iconst K dX4_blockLength_36 ?_
      exact t_iret K (Nat.le_refl _) (Nat.le_refl _) (⟨rd, st, hP2, by rw [tset_s, hp, hnn]; exact ht, fun q => by rw [tset_s] at q; omega⟩) dX4_blockLength_37
  refine z_aload_n K dX4_blockLength_0 rfl rfl rfl ?_
  refine t_callv K (tw_path0 hI hac) cV_X4_202_X4 rfl rfl (by decide) (Nat.le_of_ble_eq_true rfl) (Nat.le_refl _) (Nat.le_refl _) dX4_blockLength_1 ?_
  rintro w1 ⟨rd, st, hP, h3⟩
  have hbn := blkN_r (w 0) (pthF (w 0) (w 13) rd st) (pthS (w 0) (w 13) rd st).length
  have h20 := hP.2.2.2.2.2.1
  refine z_aload_n K dX4_blockLength_4 rfl rfl rfl ?_
  refine z_iload_n K dX4_blockLength_5 rfl rfl ?_
  refine j_i2l K (by omega) dX4_blockLength_6 ?_
  refine j_lconst0 K dX4_blockLength_7 ?_
  refine z_aload_n K dX4_blockLength_8 rfl rfl rfl ?_
  refine t_callp K (tw_blockMany hP.2.2.2.2.1 hP.2.2.2.2.2.1 (hP.p hI.1)) cV_X4_211_X4 rfl rfl (by decide) (Nat.le_of_ble_eq_true rfl) (Nat.le_refl _) (Nat.le_refl _) dX4_blockLength_9 ?_
  rw [hP.2.1 0 (by decide)]
  refine j_iconst K dX4_blockLength_12 ?_
  refine j_isub K dX4_blockLength_13 ?_
  refine j_i2l K (by omega) dX4_blockLength_14 ?_
  refine z_calls K (s_in (by omega) (by omega) (by omega)) cS_X4_82 rfl rfl (by decide) (Nat.le_of_ble_eq_true rfl) (Nat.le_refl _) (Nat.le_refl _) dX4_blockLength_15 ?_
  refine j_if_eq (tgt := 25) K dX4_blockLength_18 rfl (b01r _) (fun c_18 => ?_) (fun c_18 => ?_)
  · rw [bI_eq] at c_18
    refine j_iconst K dX4_blockLength_25 ?_
    exact tail rd st w1 hP _ (by unfold tcPath; simp [*]) (by omega) _ ⟨rfl, rfl, trivial⟩
  · rw [bI_ne] at c_18
    refine j_iconst K dX4_blockLength_21 ?_
    refine z_goto (tgt := 26) K dX4_blockLength_22 rfl ?_
    exact tail rd st w1 hP _ (by unfold tcPath; simp [*]) (by omega) _ ⟨rfl, rfl, trivial⟩
/-- fail: the latest failure -/
def wFail (w : tW) (n a b c e : Int) : tW := tset (tset (tset (tset (tset w 7 0 n) 6 0 a) 6 1 b) 6 2 c) 6 3 e
theorem tw_fail {w : tW} {n a b c e : Int} : tMv yX4_fail cX4_fail 6 1 [.int (iI n), .int (iI a), .int (iI b), .int (iI c), .int (iI e)] w (fun w' => w' = wFail w n a b c e) := by
  refine zMet.of (by decide) (Nat.le_of_ble_eq_true rfl) fun X K => ?_
  refine z_aload_n K dX4_fail_0 rfl rfl rfl ?_
  refine z_iload_n K dX4_fail_1 rfl rfl ?_
  refine t_puti K fd_X4_214_0 ⟨_, rfl, Or.inl rfl⟩ (by decide) rfl rfl dX4_fail_2 ?_
  refine z_aload_n K dX4_fail_5 rfl rfl rfl ?_
  refine t_geta K fd_X4_20_0 rfl dX4_fail_6 ?_
  refine j_iconst K dX4_fail_9 ?_
  refine z_iload_n K dX4_fail_10 rfl rfl ?_
  refine t_ist K 6 5 rfl rfl rfl (by omega) (by omega) rfl dX4_fail_11 ?_
  refine z_aload_n K dX4_fail_12 rfl rfl rfl ?_
  refine t_geta K fd_X4_20_0 rfl dX4_fail_13 ?_
  refine j_iconst K dX4_fail_16 ?_
  refine z_iload_n K dX4_fail_17 rfl rfl ?_
  refine t_ist K 6 5 rfl rfl rfl (by omega) (by omega) rfl dX4_fail_18 ?_
  refine z_aload_n K dX4_fail_19 rfl rfl rfl ?_
  refine t_geta K fd_X4_20_0 rfl dX4_fail_20 ?_
  refine j_iconst K dX4_fail_23 ?_
  refine z_iload K dX4_fail_24 rfl ?_
  refine t_ist K 6 5 rfl rfl rfl (by omega) (by omega) rfl dX4_fail_26 ?_
  refine z_aload_n K dX4_fail_27 rfl rfl rfl ?_
  refine t_geta K fd_X4_20_0 rfl dX4_fail_28 ?_
  refine j_iconst K dX4_fail_31 ?_
  refine z_iload K dX4_fail_32 rfl ?_
  refine t_ist K 6 5 rfl rfl rfl (by omega) (by omega) rfl dX4_fail_34 ?_
  exact t_vret K (Nat.le_refl _) (Nat.le_refl _) (rfl) dX4_fail_35
noncomputable def tcFailure (k : Int) : Int := if k < 0 then 1 else 0
theorem tw_failure {w : tW} {k : Int} (hk : -2147483648 ≤ k ∧ k ≤ 2147483647) (hn : 0 ≤ w 7 0 ∧ w 7 0 ≤ 4) : tMi yX4_failure cX4_failure 2 .int 1 [.int (iI k)] w (pubQ w (tcFailure k) (fun v w' => v = (if k < w 7 0 then w 6 k.toNat else if k = 0 then 0 else -1) ∧ w' = tset w 3 0 0)) := by
  refine zMet.of (by decide) (Nat.le_of_ble_eq_true rfl) fun X K => ?_
  have tail : ∀ t : Int, t = tcFailure k → 0 ≤ t ∧ t ≤ 3 → (t = 0 → 0 ≤ k) → ∀ env, zsub env [(0, .ref 1000), (1, .int (iI k))] → zW X (zPi fun x h' => ∃ v9 w', x = iI v9 ∧ h' = tH w' ∧ pubQ w (tcFailure k) (fun v w' => v = (if k < w 7 0 then w 6 k.toNat else if k = 0 then 0 else -1) ∧ w' = tset w 3 0 0) v9 w') (tH w) 0 0 10 env [.int (iI t), .ref 1000] := by
    intro t ht hr h5 env he
    refine zW.cut he ?_
    have e7 : tset w 3 0 t 7 0 = w 7 0 := tset_f (by decide)
    refine t_puti K fd_X4_79_0 ⟨_, rfl, Or.inl rfl⟩ (by decide) rfl rfl dX4_failure_10 ?_
    refine z_aload_n K dX4_failure_13 rfl rfl rfl ?_
    refine t_geti K fd_X4_79_0 (by decide) rfl dX4_failure_14 ?_
    refine j_if_le (tgt := 22) K dX4_failure_17 rfl (by rw [tset_s]; omega) (fun c_17 => ?_) (fun c_17 => ?_)
    · rw [tset_s] at c_17
      obtain rfl : t = 0 := by omega
      have h7 := h5 rfl
      refine z_iload_n K dX4_failure_22 rfl rfl ?_
      refine z_aload_n K dX4_failure_23 rfl rfl rfl ?_
      refine t_geti K fd_X4_214_0 (by decide) rfl dX4_failure_24 ?_
      rw [e7]
      refine j_icmp_ge (tgt := 39) K dX4_failure_27 rfl (by omega) (by omega) (fun c_27 => ?_) (fun c_27 => ?_)
      · refine z_iload_n K dX4_failure_39 rfl rfl ?_
        refine j_if_ne (tgt := 47) K dX4_failure_40 rfl (by omega) (fun c_40 => ?_) (fun c_40 => ?_)
        · refine j_iconst K dX4_failure_47 ?_
          exact t_iret K (Nat.le_refl _) (Nat.le_refl _) (⟨fun q => ⟨by first | (rw [if_neg (by omega), if_pos c_40]; done) | (rw [if_neg (by omega), if_neg c_40]; done) | (rw [if_pos (by omega)]; rfl), rfl⟩, fun q => absurd ht.symm q⟩) dX4_failure_48
        · refine j_iconst K dX4_failure_43 ?_
          refine z_goto (tgt := 48) K dX4_failure_44 rfl ?_
          exact t_iret K (Nat.le_refl _) (Nat.le_refl _) (⟨fun q => ⟨by first | (rw [if_neg (by omega), if_pos c_40]; done) | (rw [if_neg (by omega), if_neg c_40]; done) | (rw [if_pos (by omega)]; rfl), rfl⟩, fun q => absurd ht.symm q⟩) dX4_failure_48
      · refine z_aload_n K dX4_failure_30 rfl rfl rfl ?_
        refine t_geta K fd_X4_20_0 rfl dX4_failure_31 ?_
        refine z_iload_n K dX4_failure_34 rfl rfl ?_
        refine t_ild K 6 5 rfl rfl rfl (by omega) (by omega) rfl dX4_failure_35 ?_
        refine z_goto (tgt := 48) K dX4_failure_36 rfl ?_
        exact t_iret K (Nat.le_refl _) (Nat.le_refl _) (⟨fun q => ⟨by first | (rw [if_neg (by omega), if_pos c_40]; done) | (rw [if_neg (by omega), if_neg c_40]; done) | (rw [if_pos (by omega)]; rfl), rfl⟩, fun q => absurd ht.symm q⟩) dX4_failure_48
    · rw [tset_s] at c_17
      refine j_iconst K dX4_failure_20 ?_
      exact t_iret K (Nat.le_refl _) (Nat.le_refl _) (⟨fun q => by omega, fun q => by rw [ht]⟩) dX4_failure_21
  refine z_aload_n K dX4_failure_0 rfl rfl rfl ?_
  refine z_iload_n K dX4_failure_1 rfl rfl ?_
  refine j_if_ge (tgt := 9) K dX4_failure_2 rfl (by omega) (fun c_2 => ?_) (fun c_2 => ?_)
  · refine j_iconst K dX4_failure_9 ?_
    exact tail _ (by unfold tcFailure; split <;> omega) (by omega) (by omega) _ ⟨rfl, rfl, trivial⟩
  · refine j_iconst K dX4_failure_5 ?_
    refine z_goto (tgt := 10) K dX4_failure_6 rfl ?_
    exact tail _ (by unfold tcFailure; split <;> omega) (by omega) (by omega) _ ⟨rfl, rfl, trivial⟩
theorem tw_tabuSteps {w : tW} : tMi yX4_tabuSteps cX4_tabuSteps 1 .int 1 [] w (fun v w' => v = w 10 0 ∧ w' = tset w 3 0 0) := by
  refine zMet.of (by decide) (Nat.le_of_ble_eq_true rfl) fun X K => ?_
  refine z_aload_n K dX4_tabuSteps_0 rfl rfl rfl ?_
  refine j_iconst K dX4_tabuSteps_1 ?_
  refine t_puti K fd_X4_79_0 ⟨_, rfl, Or.inl rfl⟩ (by decide) rfl rfl dX4_tabuSteps_2 ?_
  refine z_aload_n K dX4_tabuSteps_5 rfl rfl rfl ?_
  refine t_geti K fd_X4_270_0 (by decide) rfl dX4_tabuSteps_6 ?_
  exact t_iret K (Nat.le_refl _) (Nat.le_refl _) (⟨tset_f (by decide), rfl⟩) dX4_tabuSteps_9
noncomputable def tcBott (c i : Int) : Int := if c ≠ 0 ∧ 0 ≤ i ∧ i ≤ 3 then 0 else 1
theorem tw_bottleneck {w : tW} {k : Int} (hk : -2147483648 ≤ k ∧ k ≤ 2147483647) (hn : 0 ≤ w 9 0 ∧ w 9 0 ≤ 1) : tMi yX4_bottleneck cX4_bottleneck 2 .int 2 [.int (iI k)] w (pubQ w (tcBott (w 9 0) k) (fun v w' => v = w 8 k.toNat ∧ w' = tset w 3 0 0)) := by
  refine zMet.of (by decide) (Nat.le_of_ble_eq_true rfl) fun X K => ?_
  have tail : ∀ t : Int, t = tcBott (w 9 0) k → 0 ≤ t ∧ t ≤ 3 → (t = 0 → 0 ≤ k ∧ k ≤ 3) → ∀ env, zsub env [(0, .ref 1000), (1, .int (iI k))] → zW X (zPi fun x h' => ∃ v9 w', x = iI v9 ∧ h' = tH w' ∧ pubQ w (tcBott (w 9 0) k) (fun v w' => v = w 8 k.toNat ∧ w' = tset w 3 0 0) v9 w') (tH w) 0 0 25 env [.int (iI t), .ref 1000] := by
    intro t ht hr h5 env he
    refine zW.cut he ?_
    refine t_puti K fd_X4_79_0 ⟨_, rfl, Or.inl rfl⟩ (by decide) rfl rfl dX4_bottleneck_25 ?_
    refine z_aload_n K dX4_bottleneck_28 rfl rfl rfl ?_
    refine t_geti K fd_X4_79_0 (by decide) rfl dX4_bottleneck_29 ?_
    refine j_if_le (tgt := 39) K dX4_bottleneck_32 rfl (by rw [tset_s]; omega) (fun c_32 => ?_) (fun c_32 => ?_)
    · rw [tset_s] at c_32
      obtain rfl : t = 0 := by omega
      have h7 := h5 rfl
      refine z_aload_n K dX4_bottleneck_39 rfl rfl rfl ?_
      refine t_geta K fd_X4_23_0 rfl dX4_bottleneck_40 ?_
      refine z_iload_n K dX4_bottleneck_43 rfl rfl ?_
      refine t_ild K 8 4 rfl rfl rfl (by omega) (by omega) rfl dX4_bottleneck_44 ?_
      exact t_iret K (Nat.le_refl _) (Nat.le_refl _) (⟨fun q => by first | exact ⟨tset_f (by decide), rfl⟩ | omega, fun q => by first | exact absurd ht.symm q | rw [ht]⟩) dX4_bottleneck_45
    · rw [tset_s] at c_32
      refine j_iconst K dX4_bottleneck_35 ?_
      refine z_goto (tgt := 45) K dX4_bottleneck_36 rfl ?_
      exact t_iret K (Nat.le_refl _) (Nat.le_refl _) (⟨fun q => by first | exact ⟨tset_f (by decide), rfl⟩ | omega, fun q => by first | exact absurd ht.symm q | rw [ht]⟩) dX4_bottleneck_45
  refine z_aload_n K dX4_bottleneck_0 rfl rfl rfl ?_
  refine z_aload_n K dX4_bottleneck_1 rfl rfl rfl ?_
  refine t_geti K fd_X4_258_0 (by decide) rfl dX4_bottleneck_2 ?_
  refine j_if_eq (tgt := 24) K dX4_bottleneck_5 rfl (by omega) (fun c_5 => ?_) (fun c_5 => ?_)
  · refine j_iconst K dX4_bottleneck_24 ?_
    exact tail _ (by unfold tcBott; split <;> omega) (by omega) (by omega) _ ⟨rfl, rfl, trivial⟩
  · refine z_iload_n K dX4_bottleneck_8 rfl rfl ?_
    refine j_i2l K (by omega) dX4_bottleneck_9 ?_
    refine j_lconst0 K dX4_bottleneck_10 ?_
    refine j_ldc2 K 3 q1941 (by decide +kernel) dX4_bottleneck_11 ?_
    refine z_calls K (s_in (by omega) (by omega) (by omega)) cS_X4_82 rfl rfl (by decide) (Nat.le_of_ble_eq_true rfl) (Nat.le_refl _) (Nat.le_refl _) dX4_bottleneck_14 ?_
    refine j_if_eq (tgt := 24) K dX4_bottleneck_17 rfl (b01r _) (fun c_17 => ?_) (fun c_17 => ?_)
    · rw [bI_eq] at c_17
      refine j_iconst K dX4_bottleneck_24 ?_
      exact tail _ (by unfold tcBott; split <;> omega) (by omega) (by omega) _ ⟨rfl, rfl, trivial⟩
    · rw [bI_ne] at c_17
      refine j_iconst K dX4_bottleneck_20 ?_
      refine z_goto (tgt := 25) K dX4_bottleneck_21 rfl ?_
      exact tail _ (by unfold tcBott; split <;> omega) (by omega) (by omega) _ ⟨rfl, rfl, trivial⟩

