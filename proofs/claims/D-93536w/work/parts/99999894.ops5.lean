/-! ===== the component's operations: breakdowns ===== -/
section XO5
variable {b N M n : Nat} {u u' w : tW} {g h0 : zH} {a c : Int}
/-- one breakdown more: the row, the world -/
def sAB (s : Nat → Int) (m a c : Int) : Nat → Int := sup (sup (sup s (155 + (3 * m + s (151 + m).toNat)).toNat a) (167 + (3 * m + s (151 + m).toNat)).toNat c) (151 + m).toNat (s (151 + m).toNat + 1)
theorem wBreak_0 {m : Int} : wBreak w m a c 0 = sAB (w 0) m a c := by
  unfold wBreak sAB
  rw [tsP, tsP, tsP]
theorem wBreak_f {m : Int} {f : Nat} (h : f ≠ 0) : wBreak w m a c f = w f := by
  unfold wBreak
  rw [tsG h, tsG h, tsG h]
def wAB (u : tW) (M n q : Nat) (a c : Int) : tW := fun f => if f = 0 then sAB (u 0) M a c else if f = 6 then sup (u 6) (4 + M) (u 6 (4 + M) + 1) else if f = 7 then sup (u 7) M 1 else if f = 8 then sup (u 8) (3 * M + n) q else u f
theorem wAB_0 {q : Nat} : wAB u M n q a c 0 = sAB (u 0) M a c := rfl
theorem wAB_6 {q : Nat} : wAB u M n q a c 6 = sup (u 6) (4 + M) (u 6 (4 + M) + 1) := rfl
theorem wAB_7 {q : Nat} : wAB u M n q a c 7 = sup (u 7) M 1 := rfl
theorem wAB_8 {q : Nat} : wAB u M n q a c 8 = sup (u 8) (3 * M + n) q := rfl
theorem wAB_f {q f : Nat} (h : f ≠ 0 ∧ f ≠ 6 ∧ f ≠ 7 ∧ f ≠ 8) : wAB u M n q a c f = u f := by
  unfold wAB
  rw [if_neg h.1, if_neg h.2.1, if_neg h.2.2.1, if_neg h.2.2.2]
theorem sAB_n {s : Nat → Int} (hn : s (151 + M) = n) {i : Nat} (h : i ≠ 151 + M ∧ i ≠ 155 + (3 * M + n) ∧ i ≠ 167 + (3 * M + n)) : sAB s M a c i = s i := by
  unfold sAB
  rw [show (151 + (M : Int)).toNat = 151 + M by omega, hn, sup_n (by omega), sup_n (by omega), sup_n (by omega)]
theorem sAB_c {s : Nat → Int} (hn : s (151 + M) = n) : sAB s M a c (151 + M) = n + 1 := by
  unfold sAB
  rw [show (151 + (M : Int)).toNat = 151 + M by omega, hn, sup_s]
theorem sAB_a {s : Nat → Int} (hn : s (151 + M) = n) (hM : M < 4) (n3 : n < 3) : sAB s M a c (155 + (3 * M + n)) = a := by
  unfold sAB
  rw [show (151 + (M : Int)).toNat = 151 + M by omega, hn, sup_n (by omega), sup_n (by omega), show (155 + (3 * (M : Int) + n)).toNat = 155 + (3 * M + n) by omega, sup_s]
theorem sAB_l {s : Nat → Int} (hn : s (151 + M) = n) (hM : M < 4) (n3 : n < 3) : sAB s M a c (167 + (3 * M + n)) = c := by
  unfold sAB
  rw [show (151 + (M : Int)).toNat = 151 + M by omega, hn, sup_n (by omega), show (167 + (3 * (M : Int) + n)).toNat = 167 + (3 * M + n) by omega, sup_s]
theorem SIr.ab {s : Nat → Int} (h : SIr s) (hn : s (151 + M) = n) (hM : M < 4) (n3 : n < 3) (ha : 0 ≤ a ∧ a ≤ 400) (hc : 1 ≤ c ∧ c ≤ 60) : SIr (sAB s M a c) := by
  refine h.brk (fun i hi => sAB_n hn (by omega)) (fun m m0 m1 => ?_)
  obtain ⟨b1, b2⟩ := h.1.2.2.2.2.2 m m0 m1
  unfold sBn sBf sBl at *
  by_cases e : m = M
  · subst e
    rw [show (151 + (M : Int)).toNat = 151 + M by omega] at b1 b2 ⊢
    rw [sAB_c hn]
    rw [hn] at b1 b2
    refine ⟨by omega, fun i i0 i1 => ?_⟩
    by_cases q : i = n
    · subst q
      rw [show (155 + 3 * (M : Int) + n).toNat = 155 + (3 * M + n) by omega, show (167 + 3 * (M : Int) + n).toNat = 167 + (3 * M + n) by omega, sAB_a hn hM n3, sAB_l hn hM n3]
      exact ⟨ha, hc⟩
    · rw [sAB_n hn (by omega), sAB_n hn (by omega)]
      exact b2 i i0 (by omega)
  · rw [sAB_n hn (by omega)]
    refine ⟨b1, fun i i0 i1 => ?_⟩
    rw [sAB_n hn (by omega), sAB_n hn (by omega)]
    exact b2 i i0 i1
theorem BkOk.ab {q : Nat} (h : BkOk b u g) (hB : WfB (u 0)) (hn : u 0 (151 + M) = n) (hM : M < 4) (n3 : n < 3) (hq : b + 72 ≤ q) (q8 : 1000 ≤ q) (hf : g q = none) : BkOk b (wAB u M n q a c) (zup g q (.inr (6, [.int (iI a), .int (iI c)]))) := by
  intro m i m0 m1 i0 i1
  rw [wAB_0] at i1 ⊢
  rw [wAB_7, wAB_8]
  have b1 := (hB m m0 m1).1
  unfold sBn at b1
  by_cases e : m = M
  · subst e
    rw [show (151 + (M : Int)).toNat = 151 + M by omega] at i1 b1
    rw [sAB_c hn] at i1
    rw [show ((M : Int)).toNat = M by omega, sup_s]
    by_cases z : i = n
    · subst z
      rw [show ((n : Int)).toNat = n by omega, sup_s, show (155 + 3 * (M : Int) + n).toNat = 155 + (3 * M + n) by omega, show (167 + 3 * (M : Int) + n).toNat = 167 + (3 * M + n) by omega, sAB_a hn hM n3, sAB_l hn hM n3, show ((q : Int)).toNat = q by omega, zup_at]
      exact ⟨by decide, Or.inr hq, q8, rfl⟩
    · obtain ⟨a1, a2, a3, a4⟩ := h M i (by omega) (by omega) i0 (by rw [show (151 + (M : Int)).toNat = 151 + M by omega, hn]; omega)
      rw [show ((M : Int)).toNat = M by omega] at a2 a3 a4
      rw [sup_n (by omega), sAB_n hn (by omega), sAB_n hn (by omega), zup_ne (fun e => by rw [e, hf] at a4; cases a4)]
      exact ⟨by decide, a2, a3, a4⟩
  · rw [sAB_n hn (by omega)] at i1
    obtain ⟨a1, a2, a3, a4⟩ := h m i m0 m1 i0 i1
    rw [sup_n (by omega), sup_n (by omega), sAB_n hn (by omega), sAB_n hn (by omega), zup_ne (fun e => by rw [e, hf] at a4; cases a4)]
    exact ⟨a1, a2, a3, a4⟩
theorem sC_bk {i : Nat} (hA : WfA (u 0)) (hi : i < 72) (h1 : i ≠ 14 + M) (h2 : i ≠ 10 + M) (e0 : ∀ j, (j < 151 ∨ 179 ≤ j) → u' 0 j = u 0 j) (ec : ∀ m, m < 4 → m ≠ M → u' 0 (151 + m) = u 0 (151 + m)) (e6 : ∀ j, j ≠ 4 + M → u' 6 j = u 6 j) (e7 : ∀ m, m ≠ M → u' 7 m = u 7 m) (e8 : ∀ m q, m < 4 → m ≠ M → q < 3 → u' 8 (3 * m + q) = u 8 (3 * m + q)) (ef : ∀ f, f ≠ 0 → f ≠ 6 → f ≠ 7 → f ≠ 8 → u' f = u f) (hM : M < 4) : sC b u i = sC b u' i := by
  by_cases hz : ∃ j, j < 5 ∧ i = 47 + j ∧ ¬ (j : Int) < u 0 0
  · obtain ⟨j, hj, rfl, hz⟩ := hz
    rw [sC_47 hj, sC_47 hj, e0 0 (by omega), if_neg (fun q => hz q.1), if_neg (fun q => hz q.1)]
  by_cases hy : ∃ m, m < 4 ∧ i = 14 + m
  · obtain ⟨m, hm, rfl⟩ := hy
    have hmM : m ≠ M := by omega
    have b1 := (hA.2.2.2.2.2 m (by omega) (by omega)).1
    unfold sBn at b1
    rw [show (151 + (m : Int)).toNat = 151 + m by omega] at b1
    rw [sC_14 hm, sC_14 hm, e7 m hmM, ec m hm hmM]
    by_cases z : u 7 m = 0
    · rw [if_pos z, if_pos z]
    · rw [if_neg z, if_neg z]
      exact congrArg some (aR_congr rfl fun q hq => by rw [e8 m q hm hmM (by omega)])
  refine (sC_eq hi (e0 0 (by omega)) (e0 1 (by omega)) (fun _ j _ => by rw [ef 5 (by decide) (by decide) (by decide) (by decide)]) (fun j => ?_) (fun _ c _ => e0 _ (by omega)) (fun m hm h => ?_) (fun m hm h q => absurd ⟨m, hm, h⟩ hy) (fun m hm _ => e0 _ (by omega)) (fun m hm _ p hp => e0 _ (by omega)) (fun f hf _ => ef _ (by omega) (by omega) (by omega) (by omega)) (fun j hj _ q hq => e0 _ (by omega)) (fun j hj _ => e0 _ (by omega)) (fun j hj e p hp => ?_) (fun k hk _ => ⟨e0 _ (by omega), e0 _ (by omega), e0 _ (by omega), e0 _ (by omega), e0 _ (by omega)⟩)).symm
  · by_cases z : j = 4 + M
    · right; omega
    · left; exact e6 j z
  · have : m ≠ M := by omega
    exact ⟨e7 m this, ec m hm this⟩
  · have h1 : (j : Int) < u 0 0 := Classical.not_not.mp fun h9 => hz ⟨j, hj, e, h9⟩
    have h3 := (hA.1.2 j (by omega) h1).2.2.2.2
    have h4 : sLen (u 0) j = u 0 (17 + j) := congrArg (u 0) (by omega)
    rw [h4] at h3
    exact e0 _ (by omega)
theorem sH_ab {q : Nat} (hA : WfA (u 0)) (hn : u 0 (151 + M) = n) (hM : M < 4) (n3 : n < 3) : zup (zup (sH b u g) (b + 14 + M) (aR 10 (n + 1) (fun i => if i = n then q else (u 8 (3 * M + i)).toNat))) (b + 10 + M) (oL (u 6 (4 + M) + 1) (b + 14 + M) ((n : Int) + 1)) = sH b (wAB u M n q a c) g := by
  refine sH_many [(b + 14 + M, _), (b + 10 + M, _)] ?_ ?_
  · intro p hp
    rcases List.mem_cons.mp hp with rfl | hp
    · refine ⟨14 + M, by omega, by dsimp only; omega, ?_⟩
      dsimp only
      rw [sC_14 hM, wAB_7, sup_s, if_neg (by decide), wAB_0, sAB_c hn]
      refine congrArg some (aR_congr (by omega) fun i hi => ?_)
      rw [wAB_8]
      by_cases z : i = n
      · rw [if_pos z, z, sup_s]; rfl
      · rw [if_neg z, sup_n (by omega)]
    · rcases List.mem_singleton.mp hp with rfl
      refine ⟨10 + M, by omega, by dsimp only; omega, ?_⟩
      dsimp only
      rw [sC_10 hM, wAB_7, sup_s, if_neg (by decide), wAB_0, sAB_c hn, wAB_6, sup_s]
      rfl
  · intro i hi hne
    have h1 := hne (b + 14 + M, _) (List.mem_cons_self ..)
    have h2 := hne (b + 10 + M, _) (List.mem_cons_of_mem _ (List.mem_singleton.mpr rfl))
    dsimp only at h1 h2
    exact sC_bk hA hi (by omega) (by omega) (fun j hj => by rw [wAB_0]; exact sAB_n hn (by omega)) (fun m hm h => by rw [wAB_0]; exact sAB_n hn (by omega)) (fun j hj => by rw [wAB_6]; exact sup_n hj) (fun m hm => by rw [wAB_7]; exact sup_n hm) (fun m q hm h hq => by rw [wAB_8]; exact sup_n (by omega)) (fun f a1 a2 a3 a4 => wAB_f ⟨a1, a2, a3, a4⟩) hM
theorem bk_add {q : Nat} (hAm : Am g) (hA : WfA (u 0)) (hB : BkOk b u g) (hb : 1000 ≤ b) (hn : u 0 (151 + M) = n) (hM : M < 4) (n3 : n < 3) (hq : zOb (sH b u g) q) : zMet yJ2_add (ws_ yJ2_add cJ2_add 2 (some .boolean)) 7 [.ref (b + 10 + M), .ref q] (sH b u g) (zRet (.int (iI 1)) (sH b (wAB u M n q a c) g)) 1 22 := by
  have hL := sH_brk (b := b) (u := u) (g := g) (m := (M : Int)) (by omega)
  rw [show (151 + (M : Int)).toNat = 151 + M by omega, show ((M : Int)).toNat = M by omega, hn] at hL
  have hs := sH_ab (b := b) (g := g) (q := q) (a := a) (c := c) hA hn hM n3
  by_cases z : u 7 M = 0
  · have n0 : n = 0 := by
      refine Classical.byContradiction fun h9 => (hB M 0 (by omega) (by omega) (by omega) (by rw [show (151 + (M : Int)).toNat = 151 + M by omega, hn]; omega)).1 ?_
      rw [show ((M : Int)).toNat = M by omega]
      exact z
    subst n0
    rw [if_pos z] at hL
    obtain ⟨f1, h1⟩ := (hAm.sh (b := b) (u := u) hb).1
    have k := jl_addE (nm := b + 14 + M) hL h1 hq (by rw [Nat.add_assoc, sH_in _ (by omega), sC_14 hM, if_pos z]) (by omega) (by omega)
    rw [show aR 10 1 (fun _ => q) = aR 10 (0 + 1) (fun i => if i = 0 then q else (u 8 (3 * M + i)).toNat) from aR_congr rfl fun i hi => by rw [if_pos (by omega)]] at k
    rw [← hs]
    exact k
  · rw [if_neg z] at hL
    have hA9 := sH_brA (b := b) (u := u) (g := g) (m := (M : Int)) (by omega) (by rw [show ((M : Int)).toNat = M by omega]; exact z)
    rw [show (151 + (M : Int)).toNat = 151 + M by omega, show ((M : Int)).toNat = M by omega, hn, show ((n : Int)).toNat = n by omega] at hA9
    have k := jl_addA hL hA9 (by omega) (by omega) hq (by omega) (by omega) 1 22
    rw [← hs]
    exact k
theorem x7_init {h : zH} {o : Nat} (ho : h o = some (.inr (6, [.int 0, .int 0]))) (h8 : 1000 ≤ o) : zMet yX7_init (ws_ yX7_init cX7_init 3 none) 2 [.ref o, .int (iI a), .int (iI c)] h (zVd (zup h o (.inr (6, [.int (iI a), .int (iI c)])))) 0 0 := by
  refine zMet.of (by decide) (Nat.le_of_ble_eq_true rfl) fun X K => ?_
  refine z_aload_n K dX7_init_0 rfl rfl rfl ?_
  refine z_objInit K q882 (by omega) (Nat.le_of_ble_eq_true rfl) dX7_init_1 ?_
  refine z_aload_n K dX7_init_4 rfl rfl rfl ?_
  refine z_iload_n K dX7_init_5 rfl rfl ?_
  refine z_putE K fd_X7_7_6 (by first | exact ⟨_, rfl, Or.inl rfl⟩ | exact ⟨_, rfl, Or.inr ⟨rfl, rfl, rfl⟩⟩) ho (by omega) (Nat.le_of_ble_eq_true rfl) (zf_i) dX7_init_6 (rfl) ?_
  refine z_aload_n K dX7_init_9 rfl rfl rfl ?_
  refine z_iload_n K dX7_init_10 rfl rfl ?_
  refine z_putE K fd_X7_13_6 (by first | exact ⟨_, rfl, Or.inl rfl⟩ | exact ⟨_, rfl, Or.inr ⟨rfl, rfl, rfl⟩⟩) (zup_at _ _ _) (by omega) (Nat.le_of_ble_eq_true rfl) (zf_i) dX7_init_11 (rfl) ?_
  exact z_vret K (by omega) (by omega) (⟨rfl, by rw [zup_zup]; rfl⟩) dX7_init_14
/-- all breakdowns of a machine go -/
def wCB (u : tW) (M : Nat) : tW := fun f => if f = 0 then sup (u 0) (151 + M) 0 else if f = 6 then sup (u 6) (4 + M) (u 6 (4 + M) + 1) else u f
theorem wCB_f {f : Nat} (h : f ≠ 0 ∧ f ≠ 6) : wCB u M f = u f := by
  unfold wCB
  rw [if_neg h.1, if_neg h.2]
theorem wCB_0 : wCB u M 0 = sup (u 0) (151 + M) 0 := rfl
theorem wCB_6 : wCB u M 6 = sup (u 6) (4 + M) (u 6 (4 + M) + 1) := rfl
theorem SIr.cb {s : Nat → Int} (h : SIr s) (hM : M < 4) : SIr (sup s (151 + M) 0) := by
  refine h.brk (fun i hi => sup_n (by omega)) (fun m m0 m1 => ?_)
  obtain ⟨b1, b2⟩ := h.1.2.2.2.2.2 m m0 m1
  unfold sBn sBf sBl at *
  by_cases e : m = M
  · subst e
    rw [show (151 + (M : Int)).toNat = 151 + M by omega, sup_s]
    exact ⟨by omega, fun i i0 i1 => absurd i1 (by omega)⟩
  · rw [sup_n (by omega)]
    refine ⟨b1, fun i i0 i1 => ?_⟩
    rw [sup_n (by omega), sup_n (by omega)]
    exact b2 i i0 i1
theorem BkOk.cb (h : BkOk b u g) (hB : WfB (u 0)) (hM : M < 4) : BkOk b (wCB u M) g := by
  intro m i m0 m1 i0 i1
  rw [wCB_0] at i1 ⊢
  rw [wCB_f (by decide), wCB_f (by decide)]
  by_cases e : m = M
  · subst e
    rw [show (151 + (M : Int)).toNat = 151 + M by omega, sup_s] at i1
    omega
  · rw [sup_n (by omega)] at i1
    have := (hB m m0 m1).1
    unfold sBn at this
    rw [sup_n (by omega), sup_n (by omega)]
    exact h m i m0 m1 i0 i1
theorem bk_clear (hAm : Am g) (hA : WfA (u 0)) (hB : BkOk b u g) (hb : 1000 ≤ b) (hM : M < 4) : zMet yJ2_clear (ws_ yJ2_clear cJ2_clear 4 none) 1 [.ref (b + 10 + M)] (sH b u g) (zVd (sH b (wCB u M) g)) 0 0 := by
  have b1 := (hA.2.2.2.2.2 M (by omega) (by omega)).1
  unfold sBn at b1
  rw [show (151 + (M : Int)).toNat = 151 + M by omega] at b1
  obtain ⟨n, hn⟩ : ∃ n : Nat, u 0 (151 + M) = n := ⟨(u 0 (151 + M)).toNat, by omega⟩
  have hL := sH_brk (b := b) (u := u) (g := g) (m := (M : Int)) (by omega)
  rw [show (151 + (M : Int)).toNat = 151 + M by omega, show ((M : Int)).toNat = M by omega, hn] at hL
  have rest : ∀ i, i < 72 → i ≠ 14 + M → i ≠ 10 + M → sC b u i = sC b (wCB u M) i := fun i hi h1 h2 => sC_bk hA hi h1 h2 (fun j hj => by rw [wCB_0]; exact sup_n (by omega)) (fun m hm h => by rw [wCB_0]; exact sup_n (by omega)) (fun j hj => by rw [wCB_6]; exact sup_n hj) (fun m hm => by rw [wCB_f (by decide)]) (fun m q hm h hq => by rw [wCB_f (by decide)]) (fun f a1 a2 a3 a4 => wCB_f ⟨a1, a2⟩) hM
  by_cases z : u 7 M = 0
  · have n0 : n = 0 := by
      refine Classical.byContradiction fun h9 => (hB M 0 (by omega) (by omega) (by omega) (by rw [show (151 + (M : Int)).toNat = 151 + M by omega, hn]; omega)).1 ?_
      rw [show ((M : Int)).toNat = M by omega]
      exact z
    subst n0
    rw [if_pos z] at hL
    obtain ⟨f1, h1⟩ := (hAm.sh (b := b) (u := u) hb).1
    have k := jl_clear hL h1 (Nat.le_refl _) (by omega) (by omega) (Or.inr rfl)
    rw [zup_self h1] at k
    rw [show b + 10 + M = b + (10 + M) by omega] at k ⊢
    rw [sH_up (u' := wCB u M) (by omega) (by rw [sC_10 hM, wCB_0, wCB_6, wCB_f (f := 7) (by decide), if_pos z, sup_s, sup_s]) (fun i hi h2 => by
      by_cases e : i = 14 + M
      · rw [e, sC_14 hM, sC_14 hM, wCB_f (by decide), if_pos z, if_pos z]
      · exact rest i hi e h2)] at k
    exact k
  · rw [if_neg z] at hL
    have hA9 := sH_brA (b := b) (u := u) (g := g) (m := (M : Int)) (by omega) (by rw [show ((M : Int)).toNat = M by omega]; exact z)
    rw [show (151 + (M : Int)).toNat = 151 + M by omega, show ((M : Int)).toNat = M by omega, hn, show ((n : Int)).toNat = n by omega] at hA9
    have k := jl_clear hL hA9 (by omega) (by omega) (by omega) (Or.inl (by omega))
    rw [show zup (zup (sH b u g) (b + 14 + M) (aR 10 0 fun q => (u 8 (3 * M + q)).toNat)) (b + 10 + M) (oL (u 6 (4 + M) + 1) (b + 14 + M) 0) = sH b (wCB u M) g from by
      refine sH_many [(b + 14 + M, _), (b + 10 + M, _)] ?_ ?_
      · intro p hp
        rcases List.mem_cons.mp hp with rfl | hp
        · refine ⟨14 + M, by omega, by dsimp only; omega, ?_⟩
          dsimp only
          rw [sC_14 hM, wCB_f (by decide), if_neg z, wCB_0, sup_s, wCB_f (by decide)]
          rfl
        · rcases List.mem_singleton.mp hp with rfl
          refine ⟨10 + M, by omega, by dsimp only; omega, ?_⟩
          dsimp only
          rw [sC_10 hM, wCB_f (f := 7) (by decide), if_neg z, wCB_0, wCB_6, sup_s, sup_s]
          rfl
      · intro i hi hne
        have h1 := hne (b + 14 + M, _) (List.mem_cons_self ..)
        have h2 := hne (b + 10 + M, _) (List.mem_cons_of_mem _ (List.mem_singleton.mpr rfl))
        dsimp only at h1 h2
        exact rest i hi (by omega) (by omega)] at k
    exact k
theorem x1_clearBreakdowns {m : Int} (hC : CG b N u g w) (hm : i32 m) : zMet yX1_clearBreakdowns (ws_ yX1_clearBreakdowns cX1_clearBreakdowns 3 (some .int)) 8 [.ref 1040, .int (iI m)] (sH b u g) (cQ (sH b u g) (fun v9 w' => pub w (tcClear m) (w 0 (151 + m).toNat) (tset (tset w 3 0 0) 0 (151 + m).toNat 0) w' v9) (cdA 24 99 99)) 1 6 := by
  obtain ⟨sv, T, fl, cl, hx⟩ := hC.xg
  have n8 := hC.n8
  have k1 := x1_inG (h := sH b u g) (x := m) (a := 0) (b := 3) hm (by omega) (by omega)
  have k2 := x1_checkIndex (h := sH b u g) (N := N) (v := bI (0 ≤ m ∧ m ≤ 3)) hC.am (b01r _) hC.fr n8.2.2.2
  generalize hR : (fun v9 w' => pub w (tcClear m) (w 0 (151 + m).toNat) (tset (tset w 3 0 0) 0 (151 + m).toNat 0) w' v9) = R
  have hex : ¬ (0 ≤ m ∧ m ≤ 3) → cQ (sH b u g) R (cdA 24 99 99) (.inr N) (zup (sH b u g) N (oEx 24 (sH b u g) N)) := fun ck => cQ.ex hC hC.lo (by decide) (fun v' w' r => by rw [← hR] at r; exact pub.ex r (if_neg ck) (by decide))
  have hok : (0 ≤ m ∧ m ≤ 3) → cQ (sH b u g) R (cdA 24 99 99) (.inl (some (.int (iI (u 0 (151 + m).toNat))))) (sH b (wCB u m.toNat) g) := fun c1 => by
    refine cQ.sh hC hC.lo (by rw [wCB_0]; exact hC.2.2.2.2.2.1.cb (by omega)) (hC.bk.cb hC.A.2.2.2.2.2 (by omega)) (wCB_f (by decide)) (wCB_f (by decide)) (fun v' w' r => ?_)
    rw [← hR] at r
    obtain ⟨r1, rfl⟩ := pub.at r (if_pos c1)
    exact ⟨set0_3, by rw [r1, hC.row], sw.set0, by rw [set0_0, wCB_0, hC.row, show 151 + m.toNat = (151 + m).toNat by omega]⟩
  have kk := fun h => bk_clear (b := b) (M := m.toNat) hC.2.2.1 hC.A hC.bk n8.1 h
  refine zMet.of (by decide) (Nat.le_of_ble_eq_true rfl) fun X K => ?_
  refine z_iload_n K dX1_clearBreakdowns_0 rfl rfl ?_
  refine j_iconst K dX1_clearBreakdowns_1 ?_
  refine j_iconst K dX1_clearBreakdowns_2 ?_
  refine z_callS K (k1) cS_X1_3 rfl rfl (by omega) (by omega) (by omega) (Nat.le_of_ble_eq_true rfl) dX1_clearBreakdowns_3 zrX (zrK ?_)
  refine z_callS K (k2) cS_X1_49 rfl rfl (by omega) (by omega) (by omega) (Nat.le_of_ble_eq_true rfl) dX1_clearBreakdowns_6 (ckX fun ck_6 => z_out K rfl (by omega) (by omega) (hex (fun q => ck_6 (by rw [show bI (0 ≤ m ∧ m ≤ 3) = 1 from if_pos q]; decide)))) (ckK fun ck_6 => ?_)
  have ck := bI_n ck_6
  refine z_aload_n K dX1_clearBreakdowns_9 rfl rfl rfl ?_
  refine z_get K fd_X1_16_1 (hx _) rfl dX1_clearBreakdowns_10 ?_
  refine z_get K fd_X1_119_2 (sH_shop) rfl dX1_clearBreakdowns_13 ?_
  refine z_iload_n K dX1_clearBreakdowns_16 rfl rfl ?_
  refine z_callV K (gt_brks ⟨by omega, by omega⟩) cV_X1_53_J2 (sH_brks) rfl rfl rfl (by omega) (by omega) (by omega) (Nat.le_of_ble_eq_true rfl) dX1_clearBreakdowns_17 zrX (zrK ?_)
  refine z_castS K (sH_brk ⟨by omega, by omega⟩) rfl q465 dX1_clearBreakdowns_20 ?_
  refine z_callV K (jl_size (sH_brk ⟨by omega, by omega⟩)) cV_X1_43_J2 (sH_brk ⟨by omega, by omega⟩) rfl rfl rfl (by omega) (by omega) (by omega) (Nat.le_of_ble_eq_true rfl) dX1_clearBreakdowns_23 zrX (zrK ?_)
  refine z_istore_n K dX1_clearBreakdowns_26 rfl (by decide) rfl ?_
  refine z_aload_n K dX1_clearBreakdowns_27 rfl rfl rfl ?_
  refine z_get K fd_X1_16_1 (hx _) rfl dX1_clearBreakdowns_28 ?_
  refine z_get K fd_X1_119_2 (sH_shop) rfl dX1_clearBreakdowns_31 ?_
  refine z_iload_n K dX1_clearBreakdowns_34 rfl rfl ?_
  refine z_callV K (gt_brks ⟨by omega, by omega⟩) cV_X1_53_J2 (sH_brks) rfl rfl rfl (by omega) (by omega) (by omega) (Nat.le_of_ble_eq_true rfl) dX1_clearBreakdowns_35 zrX (zrK ?_)
  refine z_castS K (sH_brk ⟨by omega, by omega⟩) rfl q465 dX1_clearBreakdowns_38 ?_
  refine z_callV K (kk (by omega)) cV_X1_127_J2 (sH_brk ⟨by omega, by omega⟩) rfl rfl rfl (by omega) (by omega) (by omega) (Nat.le_of_ble_eq_true rfl) dX1_clearBreakdowns_41 zvX (zvK ?_)
  refine z_iload_n K dX1_clearBreakdowns_44 rfl rfl ?_
  exact z_iret K (by omega) (by omega) (hok ck) dX1_clearBreakdowns_45
theorem x1_addBreakdown {m : Int} (hC : CG b N u g w) (hm : i32 m) (ha : i32 a) (hc : i32 c) : zMet yX1_addBreakdown (ws_ yX1_addBreakdown cX1_addBreakdown 5 (some .int)) 8 [.ref 1040, .int (iI m), .int (iI a), .int (iI c)] (sH b u g) (cQ (sH b u g) (fun v9 w' => pub w (tcAddBreak w m a c) (w 0 (151 + m).toNat + 1) (wBreak (tset w 3 0 0) m a c) w' v9) (cdA 24 22 23)) 6 60 := by
  obtain ⟨sv, T, fl, cl, hx⟩ := hC.xg
  have n8 := hC.n8
  have k1 := x1_inG (h := sH b u g) (x := m) (a := 0) (b := 3) hm (by omega) (by omega)
  have k2 := x1_checkIndex (h := sH b u g) (N := N) (v := bI (0 ≤ m ∧ m ≤ 3)) hC.am (b01r _) hC.fr n8.2.2.2
  have k3 := x1_inG (h := sH b u g) (x := a) (a := 0) (b := 400) ha (by omega) (by omega)
  have k4 := x1_inG (h := sH b u g) (x := c) (a := 1) (b := 60) hc (by omega) (by omega)
  have kd := fun v hv => x1_check (h := sH b u g) (N := N) (v := v) hC.am hv hC.fr n8.2.2.2
  have ke := fun v hv => x1_checkState (h := sH b u g) (N := N) (v := v) hC.am hv hC.fr n8.2.2.2
  have e0 := hC.row
  generalize hR : (fun v9 w' => pub w (tcAddBreak w m a c) (w 0 (151 + m).toNat + 1) (wBreak (tset w 3 0 0) m a c) w' v9) = R
  have hex : ¬ (0 ≤ m ∧ m ≤ 3) → cQ (sH b u g) R (cdA 24 22 23) (.inr N) (zup (sH b u g) N (oEx 24 (sH b u g) N)) := fun ck => cQ.ex hC hC.lo (by decide) (fun v' w' r => by rw [← hR] at r; exact pub.ex r (if_pos ck) (by decide))
  have hex2 : (0 ≤ m ∧ m ≤ 3) → ¬ ((0 ≤ a ∧ a ≤ 400) ∧ 1 ≤ c ∧ c ≤ 60) → cQ (sH b u g) R (cdA 24 22 23) (.inr N) (zup (sH b u g) N (oEx 22 (sH b u g) N)) := fun c1 ck => cQ.ex hC hC.lo (by decide) (fun v' w' r => by rw [← hR] at r; exact pub.ex r ((if_neg (not_not_intro c1)).trans (if_pos ck)) (by decide))
  have hex3 : (0 ≤ m ∧ m ≤ 3) → ((0 ≤ a ∧ a ≤ 400) ∧ 1 ≤ c ∧ c ≤ 60) → u 0 (151 + m).toNat = 3 → cQ (sH b u g) R (cdA 24 22 23) (.inr N) (zup (sH b u g) N (oEx 23 (sH b u g) N)) := fun c1 c2 ck => cQ.ex hC hC.lo (by decide) (fun v' w' r => by rw [← hR] at r; exact pub.ex r ((if_neg (not_not_intro c1)).trans ((if_neg (not_not_intro c2)).trans (if_pos (by rw [← e0]; exact ck)))) (by decide))
  have hTp := hC.2.2.2.1
  have hok : ∀ M n : Nat, m = M → M < 4 → u 0 (151 + M) = n → n < 3 → ((0 ≤ a ∧ a ≤ 400) ∧ 1 ≤ c ∧ c ≤ 60) → ∀ v : Int, v = n + 1 → cQ (sH b u g) R (cdA 24 22 23) (.inl (some (.int (iI v)))) (sH b (wAB u M n N a c) (zup g N (.inr (6, [.int (iI a), .int (iI c)])))) := fun M n eM hM hn n3 c2 v ev => by
    refine ⟨fun m hm => (sH_out (by omega)).trans ((zup_ne (by omega)).trans (hC.lo m hm).symm), Or.inl ⟨v, rfl, fun v' w' r => ?_⟩⟩
    rw [← hR] at r
    have em : (151 + m).toNat = 151 + M := by omega
    obtain ⟨r1, rfl⟩ := pub.at r ((if_neg (by omega)).trans ((if_neg (not_not_intro c2)).trans (if_neg (by rw [← e0, em, hn]; omega))))
    refine ⟨(congrFun (wBreak_f (by decide)) 0).trans set3_3, by rw [r1, ev, ← e0, em, hn], b, N + 1, _, _, rfl, ?_⟩
    refine hC.mv (fun m hm => zup_ne (by omega)) (fun m hm => (zup_ne (by omega)).trans (hTp m (by omega))) (by omega) (fun f h1 h2 h3 => (wBreak_f (by omega)).trans (sw.set f h1 h2 h3)) ?_ ?_ ?_ (by rw [wAB_f (by decide)]) (by rw [wAB_f (by decide)]) (fun t k => by rw [wAB_f (by decide)]; exact t k)
    · rw [wAB_0, wBreak_0, set3_0, ← e0, eM]
    · rw [wAB_0]; exact hC.2.2.2.2.2.1.ab hn hM n3 c2.1 c2.2
    · exact hC.bk.ab hC.A.2.2.2.2.2 hn hM n3 (by omega) (by omega) (hTp N (Nat.le_refl _))
  refine zMet.of (by decide) (Nat.le_of_ble_eq_true rfl) fun X K => ?_
  have bad2 : (0 ≤ m ∧ m ≤ 3) → ¬ ((0 ≤ a ∧ a ≤ 400) ∧ 1 ≤ c ∧ c ≤ 60) → ∀ env, zsub env [] → zW X (cQ (sH b u g) R (cdA 24 22 23)) (sH b u g) 1 6 34 env [] := by
    intro h1 h2 env he
    refine zW.cut he ?_
    have kc0 := kd 0 (by omega)
    refine j_iconst K dX1_addBreakdown_34 ?_
    refine z_callS K (kc0) cS_X1_80 rfl rfl (by omega) (by omega) (by omega) (Nat.le_of_ble_eq_true rfl) dX1_addBreakdown_35 (ckX fun ck_35 => z_out K rfl (by omega) (by omega) (hex2 h1 h2)) (ckK fun ck_35 => ?_)
    exact absurd rfl ck_35
  have bad3 : (0 ≤ m ∧ m ≤ 3) → ((0 ≤ a ∧ a ≤ 400) ∧ 1 ≤ c ∧ c ≤ 60) → u 0 (151 + m).toNat = 3 → ∀ env, zsub env [] → zW X (cQ (sH b u g) R (cdA 24 22 23)) (sH b u g) 2 12 67 env [] := by
    intro h1 h2 h3 env he
    refine zW.cut he ?_
    have kc0 := ke 0 (by omega)
    refine j_iconst K dX1_addBreakdown_67 ?_
    refine z_callS K (kc0) cS_X1_83 rfl rfl (by omega) (by omega) (by omega) (Nat.le_of_ble_eq_true rfl) dX1_addBreakdown_68 (ckX fun ck_68 => z_out K rfl (by omega) (by omega) (hex3 h1 h2 h3)) (ckK fun ck_68 => ?_)
    exact absurd rfl ck_68
  have last : ∀ M n : Nat, m = M → M < 4 → u 0 (151 + M) = n → n < 3 → ((0 ≤ a ∧ a ≤ 400) ∧ 1 ≤ c ∧ c ≤ 60) → ∀ env, zsub env [(2, .int (iI a)), (3, .int (iI c)), (4, .ref (b + 10 + M))] → zW X (cQ (sH b u g) R (cdA 24 22 23)) (sH b u g) 3 18 71 env [] := by
    intro M n eM hM hn n3 c2 env he
    refine zW.cut he ?_
    have fin := hok M n eM hM hn n3 c2
    have ki := x7_init (a := a) (c := c) (h := zup (sH b u g) N (.inr (6, [.int 0, .int 0]))) (o := N) (zup_at _ _ _) n8.2.2.2
    rw [zup_zup, show zup (sH b u g) N (.inr (6, [.int (iI a), .int (iI c)])) = sH b u (zup g N (.inr (6, [.int (iI a), .int (iI c)]))) from sH_upo (by omega)] at ki
    have ka := bk_add (g := zup g N (.inr (6, [.int (iI a), .int (iI c)]))) (q := N) (a := a) (c := c) (hC.2.2.1.up n8.2.2.2) hC.A (hC.bk.ext (fun m hm => zup_ne (by omega)) hTp) n8.1 hn hM n3 (Or.inl ⟨_, _, _, (sH_out (by omega)).trans (zup_at _ _ _), rfl, q2300⟩)
    have el : sH b u (zup g N (.inr (6, [.int (iI a), .int (iI c)]))) (b + 10 + M) = some (oL (u 6 (4 + M)) (if u 7 M = 0 then 1 else b + 14 + M) (u 0 (151 + M))) := by rw [Nat.add_assoc, sH_in _ (by omega), sC_10 hM]
    have el2 : sH b (wAB u M n N a c) (zup g N (.inr (6, [.int (iI a), .int (iI c)]))) (b + 10 + M) = some (oL (wAB u M n N a c 6 (4 + M)) (if wAB u M n N a c 7 M = 0 then 1 else b + 14 + M) ((n : Int) + 1)) := by
      rw [Nat.add_assoc, sH_in _ (by omega), sC_10 hM, wAB_0, sAB_c hn]
    refine z_aload K dX1_addBreakdown_71 rfl rfl ?_
    refine z_new K (N) nw_X1_122 hC.fr (by omega) (by omega) (by omega) dX1_addBreakdown_73 ?_
    refine z_dup K dX1_addBreakdown_76 rfl ?_
    refine z_iload_n K dX1_addBreakdown_77 rfl rfl ?_
    refine z_iload_n K dX1_addBreakdown_78 rfl rfl ?_
    refine z_cI (fs := []) K (ki) cI_X1_124 rfl rfl (by omega) (by omega) (by omega) (Nat.le_of_ble_eq_true rfl) dX1_addBreakdown_79 zvX (zvK ?_)
    refine z_callV K (ka) cV_X1_89_J2 (el) rfl rfl rfl (by omega) (by omega) (by omega) (Nat.le_of_ble_eq_true rfl) dX1_addBreakdown_82 zrX (zrK ?_)
    refine z_pop K dX1_addBreakdown_85 rfl ?_
    refine z_aload K dX1_addBreakdown_86 rfl rfl ?_
    refine z_callV K (jl_size el2) cV_X1_43_J2 (el2) rfl rfl rfl (by omega) (by omega) (by omega) (Nat.le_of_ble_eq_true rfl) dX1_addBreakdown_88 zrX (zrK ?_)
    exact z_iret K (by omega) (by omega) (fin _ rfl) dX1_addBreakdown_91
  have kd1 := kd 1 (by omega)
  have ke1 := ke 1 (by omega)
  have b1 := fun h1 h2 => (hC.A.2.2.2.2.2 m h1 h2).1
  unfold sBn at b1
  refine z_iload_n K dX1_addBreakdown_0 rfl rfl ?_
  refine j_iconst K dX1_addBreakdown_1 ?_
  refine j_iconst K dX1_addBreakdown_2 ?_
  refine z_callS K (k1) cS_X1_3 rfl rfl (by omega) (by omega) (by omega) (Nat.le_of_ble_eq_true rfl) dX1_addBreakdown_3 zrX (zrK ?_)
  refine z_callS K (k2) cS_X1_49 rfl rfl (by omega) (by omega) (by omega) (Nat.le_of_ble_eq_true rfl) dX1_addBreakdown_6 (ckX fun ck_6 => z_out K rfl (by omega) (by omega) (hex (fun q => ck_6 (by rw [show bI (0 ≤ m ∧ m ≤ 3) = 1 from if_pos q]; decide)))) (ckK fun ck_6 => ?_)
  have ck := bI_n ck_6
  have bn := b1 ck.1 ck.2
  refine z_iload_n K dX1_addBreakdown_9 rfl rfl ?_
  refine j_iconst K dX1_addBreakdown_10 ?_
  refine j_sipush K dX1_addBreakdown_11 (by decide +kernel) ?_
  refine z_callS K (k3) cS_X1_3 rfl rfl (by omega) (by omega) (by omega) (Nat.le_of_ble_eq_true rfl) dX1_addBreakdown_14 zrX (zrK ?_)
  refine j_if_eq (tgt := 34) K dX1_addBreakdown_17 rfl (b01r _) (fun c_17 => ?_) (fun c_17 => ?_)
  · exact bad2 ck (fun q => by first | exact bI_y c_27 q.2 | exact bI_y c_17 q.1) _ trivial
  · refine z_iload_n K dX1_addBreakdown_20 rfl rfl ?_
    refine j_iconst K dX1_addBreakdown_21 ?_
    refine j_bipush K dX1_addBreakdown_22 (by decide +kernel) ?_
    refine z_callS K (k4) cS_X1_3 rfl rfl (by omega) (by omega) (by omega) (Nat.le_of_ble_eq_true rfl) dX1_addBreakdown_24 zrX (zrK ?_)
    refine j_if_eq (tgt := 34) K dX1_addBreakdown_27 rfl (b01r _) (fun c_27 => ?_) (fun c_27 => ?_)
    · exact bad2 ck (fun q => by first | exact bI_y c_27 q.2 | exact bI_y c_17 q.1) _ trivial
    · refine j_iconst K dX1_addBreakdown_30 ?_
      refine z_goto (tgt := 35) K dX1_addBreakdown_31 rfl ?_
      refine z_callS K (kd1) cS_X1_80 rfl rfl (by omega) (by omega) (by omega) (Nat.le_of_ble_eq_true rfl) dX1_addBreakdown_35 (ckX fun ck_35 => absurd (by decide) ck_35) (ckK fun ck_35 => ?_)
      refine z_aload_n K dX1_addBreakdown_38 rfl rfl rfl ?_
      refine z_get K fd_X1_16_1 (hx _) rfl dX1_addBreakdown_39 ?_
      refine z_get K fd_X1_119_2 (sH_shop) rfl dX1_addBreakdown_42 ?_
      refine z_iload_n K dX1_addBreakdown_45 rfl rfl ?_
      refine z_callV K (gt_brks ⟨by omega, by omega⟩) cV_X1_53_J2 (sH_brks) rfl rfl rfl (by omega) (by omega) (by omega) (Nat.le_of_ble_eq_true rfl) dX1_addBreakdown_46 zrX (zrK ?_)
      refine z_castS K (sH_brk ⟨by omega, by omega⟩) rfl q465 dX1_addBreakdown_49 ?_
      refine z_astore K dX1_addBreakdown_52 rfl (by decide) rfl ?_
      refine z_aload K dX1_addBreakdown_54 rfl rfl ?_
      refine z_callV K (jl_size (sH_brk ⟨by omega, by omega⟩)) cV_X1_43_J2 (sH_brk ⟨by omega, by omega⟩) rfl rfl rfl (by omega) (by omega) (by omega) (Nat.le_of_ble_eq_true rfl) dX1_addBreakdown_56 zrX (zrK ?_)
      refine j_iconst K dX1_addBreakdown_59 ?_
      refine j_icmp_ge (tgt := 67) K dX1_addBreakdown_60 rfl (by omega) (by omega) (fun c_60 => ?_) (fun c_60 => ?_)
      · exact bad3 ck ⟨bI_n c_17, bI_n c_27⟩ (by omega) _ trivial
      · refine j_iconst K dX1_addBreakdown_63 ?_
        refine z_goto (tgt := 68) K dX1_addBreakdown_64 rfl ?_
        refine z_callS K (ke1) cS_X1_83 rfl rfl (by omega) (by omega) (by omega) (Nat.le_of_ble_eq_true rfl) dX1_addBreakdown_68 (ckX fun ck_68 => absurd (by decide) ck_68) (ckK fun ck_68 => ?_)
        refine last m.toNat (u 0 (151 + m).toNat).toNat (by omega) (by omega) (by rw [show 151 + m.toNat = (151 + m).toNat by omega]; omega) (by omega) ⟨bI_n c_17, bI_n c_27⟩ _ ⟨rfl, rfl, rfl, trivial⟩
end XO5

