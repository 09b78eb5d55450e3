/-! ===== what has no time: the mask, how many, the first; Shop.schedule ===== -/
theorem dnM_tb {st : Nat → Int} {n i : Nat} (hi : i < n) : (dnM st n).testBit i = decide (0 ≤ st i) := by
  rw [Nat.testBit_eq_decide_div_mod_eq, dnM_bit n hi]
  by_cases c : 0 ≤ st i
  · rw [if_pos c]; simp [c]
  · rw [if_neg c]; simp [c]
def lfM (st : Nat → Int) (n : Nat) : Nat := 2 ^ n - (dnM st n + 1)
theorem lfM_tb {st : Nat → Int} {n i : Nat} : (lfM st n).testBit i = (decide (i < n) && decide (st i < 0)) := by
  unfold lfM
  rw [Nat.testBit_two_pow_sub_succ (dnM_lt st n)]
  by_cases c : i < n
  · rw [dnM_tb c]
    by_cases c2 : st i < 0
    · simp [c, c2] <;> omega
    · simp [c, c2] <;> omega
  · simp [c]
theorem lfM_bit {st : Nat → Int} {n i : Nat} : lfM st n / 2 ^ i % 2 = if i < n ∧ st i < 0 then 1 else 0 := by
  have h := lfM_tb (st := st) (n := n) (i := i)
  rw [Nat.testBit_eq_decide_div_mod_eq] at h
  by_cases c : i < n ∧ st i < 0
  · rw [if_pos c]
    simp [c.1, c.2] at h
    exact h
  · rw [if_neg c]
    have : ¬ (lfM st n / 2 ^ i % 2 = 1) := by
      intro e
      rw [e] at h
      simp at h
      exact c h
    omega
theorem lfM_cnt {st : Nat → Int} {n : Nat} (j : Nat) : (bct (lfM st n) j : Int) = cntU st (min j n) := by
  induction j with
  | zero => rw [Nat.zero_min]; rfl
  | succ j ih =>
    show ((bct (lfM st n) j + lfM st n / 2 ^ j % 2 : Nat) : Int) = _
    rw [lfM_bit, Int.natCast_add, ih]
    rcases Nat.lt_or_ge j n with c | c
    · rw [Nat.min_eq_left (by omega), Nat.min_eq_left (by omega)]
      show _ = cntU st j + _
      by_cases c2 : st j < 0
      · rw [if_pos ⟨c, c2⟩, if_pos c2]; rfl
      · rw [if_neg (fun z => c2 z.2), if_neg c2]; rfl
    · rw [Nat.min_eq_right (by omega), Nat.min_eq_right (by omega), if_neg (by omega)]
      omega
theorem lfM_lt {st : Nat → Int} {n : Nat} (hn : n ≤ 20) : lfM st n < 2 ^ 20 := by
  have : (2 : Nat) ^ n ≤ 2 ^ 20 := Nat.pow_le_pow_right (by decide) hn
  have := Nat.two_pow_pos n
  unfold lfM
  omega
theorem lfM_low {st : Nat → Int} {n : Nat} {x : Int} (hx : isFst st n x) : ∃ m, lfM st n = 2 ^ x.toNat * (2 * m + 1) := by
  obtain ⟨⟨x0, x1⟩, x2, x3⟩ := hx
  have h1 := lfM_bit (st := st) (n := n) (i := x.toNat)
  rw [if_pos ⟨by omega, x2⟩] at h1
  have h2 : lfM st n % 2 ^ x.toNat = 0 := by
    apply Nat.eq_of_testBit_eq
    intro i
    rw [Nat.testBit_mod_two_pow, Nat.zero_testBit, lfM_tb]
    by_cases c : i < x.toNat
    · have := x3 i (by omega)
      simp [show ¬ st i < 0 by omega]
    · simp [c]
  refine ⟨lfM st n / 2 ^ x.toNat / 2, ?_⟩
  have h3 := Nat.div_add_mod (lfM st n) (2 ^ x.toNat)
  rw [h2, Nat.add_zero] at h3
  rw [show 2 * (lfM st n / 2 ^ x.toNat / 2) + 1 = lfM st n / 2 ^ x.toNat by omega]
  exact h3.symm
theorem mk_left {st : Nat → Int} {n : Nat} (hn : n ≤ 20) : iI (((2 ^ n : Nat) : Int) - 1) &&& (iI (dnM st n : Nat) ^^^ iI (-1)) = iI ((lfM st n : Nat) : Int) := by
  have hp := Nat.two_pow_pos n
  rw [show ((2 ^ n : Nat) : Int) - 1 = ((2 ^ n - 1 : Nat) : Int) by omega]
  apply Int32.toBitVec_inj.mp
  rw [Int32.toBitVec_and, Int32.toBitVec_xor, iI_bv, iI_bv, iI_bv, show (iI (-1)).toBitVec = BitVec.allOnes 32 by decide]
  apply BitVec.eq_of_getLsbD_eq
  intro i hi
  rw [BitVec.getLsbD_and, BitVec.getLsbD_xor, BitVec.getLsbD_ofNat, BitVec.getLsbD_ofNat, BitVec.getLsbD_ofNat, BitVec.getLsbD_allOnes, Nat.testBit_two_pow_sub_one, lfM, Nat.testBit_two_pow_sub_succ (dnM_lt st n)]
  simp [hi]
section XSe
variable {b : Nat} {u : tW} {g : zH}
/-- a failure by a cycle: the number of the first, and how many -/
def cyH (h : zH) (q a c : Nat) (x n : Int) : zH := zup (zup (zup h a (f7 h (.ref c) (100 + x))) c (f7 h (.ref c) n)) q (f8 8 h (.ref a) 1)
theorem cyH_eq {h : zH} {c0 : zC} {q a c : Nat} {x n : Int} (q8 : 1000 ≤ q) : zup (zup (zup (zup h q c0) a (f7 (zup h q c0) (.ref c) (100 + x))) c (f7 (zup h q c0) (.ref c) n)) q (f8 8 (zup h q c0) (.ref a) 1) = cyH h q a c x n := by
  unfold cyH f7 f8
  rw [thL_up q8, thL_up q8, thL_up q8]
  funext j
  by_cases e : j = q
  · subst e; rw [zup_at, zup_at]
  · rw [zup_ne e, zup_ne e]
    by_cases e2 : j = c
    · subst e2; rw [zup_at, zup_at]
    · rw [zup_ne e2, zup_ne e2]
      by_cases e3 : j = a
      · subst e3; rw [zup_at, zup_at]
      · rw [zup_ne e3, zup_ne e3, zup_ne e]
theorem x2_schedule {bb : Int} {N : Nat} (hb : 1000 ≤ b) (hbN : b + 72 ≤ N) (hbb : 500 ≤ bb ∧ bb ≤ 3200) (hhb : u 5 2 = -1 ∨ u 5 3 ≤ bb) (hA : WfA (u 0)) (hO : WfO (u 0)) (hB : BkOk b u g) (hd : -1 ≤ u 5 2 ∧ u 5 2 ≤ 100) (hu : 0 ≤ u 5 3 ∧ u 5 3 ≤ 3000) (hAm : Am g) (hT : zTop g N) :
    zMet yX2_schedule (ws_ yX2_schedule cX2_schedule 2 none) 7 [.ref b] (sH b u g) (fun z h' => ∃ u' rd st, SK u u' ∧ SR (u 0) (oB 0) (u 5 2) (u 5 3) rd st u' ∧ Tp (u 0) (oB 0) (u 5 2) (u 5 3) rd st ∧ Tq (u 0) (oB 0) st ∧ (∀ i : Nat, (i : Int) < u 0 1 → -1 ≤ st i ∧ st i ≤ bb + 800) ∧ ((cntU st (u 0 1).toNat = 0 ∧ z = .inl none ∧ h' = sH b u' g) ∨ (cntU st (u 0 1).toNat ≠ 0 ∧ z = .inr N ∧ ∃ x, isFst st (u 0 1).toNat x ∧ h' = cyH (sH b u' g) N (N + 1) (N + 2) x (cntU st (u 0 1).toNat)))) 3 21 := by
  have h20 := hA.2.1.1
  have hS := x2_isScheduled (a := 0) (by decide) hb hbb hhb hA hO hB hd hu
  refine zMet.of (by decide) (Nat.le_of_ble_eq_true rfl) fun X K => ?_
  refine z_aload_n K dX2_schedule_0 rfl rfl rfl ?_
  refine j_iconst K dX2_schedule_1 ?_
  refine z_callV K (hS) cV_X2_182_X2 (sH_shop) rfl rfl rfl (by omega) (by omega) (by omega) (Nat.le_of_ble_eq_true rfl) dX2_schedule_2 (fun _ _ ⟨_, _, _, e, _⟩ => nomatch e) ?_
  rintro _ _ ⟨u', rd, st, ez, rfl, hK, hR, hTp, hTq, hBd⟩
  cases ez
  refine j_if_eq (tgt := 9) K dX2_schedule_5 rfl (b01r _) (fun c_5 => ?_) (fun c_5 => ?_)
  · rw [bI_eq] at c_5
    obtain ⟨x, hx⟩ := isFst.ex c_5
    obtain ⟨m, hm⟩ := lfM_low hx
    obtain ⟨e0, e1, e2, e3, e4, e5, e6⟩ := id hR
    have hn20 : (u 0 1).toNat ≤ 20 := by omega
    have hx20 := hx.1
    have hll := lfM_lt (st := st) hn20
    have hct := lfM_cnt (st := st) (n := (u 0 1).toNat) 20
    rw [Nat.min_eq_right hn20] at hct
    have hc1 := x_bitCount (h := zup (sH b u' g) N (.inr (8, [.null, .null, .null, .null, .null, .int 0, .int 0]))) hll
    rw [hct] at hc1
    have hc2 := x_trail (m := m) (k := x.toNat) (h := zup (sH b u' g) N (.inr (8, [.null, .null, .null, .null, .null, .int 0, .int 0]))) (by rw [← hm]; exact hll) (by omega)
    rw [← hm, show ((x.toNat : Nat) : Int) = x by omega] at hc2
    have fr : ∀ j, N ≤ j → sH b u' g j = none := fun j hj => (sH_out (by omega)).trans (hT j hj)
    have hc3 := x9_init (h := zup (sH b u' g) N (.inr (8, [.null, .null, .null, .null, .null, .int 0, .int 0]))) (q := N) (a := N + 1) (b := N + 2) (lo := x) (mn := cntU st (u 0 1).toNat) ((hAm.sh hb).up (by omega)) (zup_at _ _ _) ((zup_ne (by omega)).trans (fr _ (by omega))) ((zup_ne (by omega)).trans (fr _ (by omega))) (by omega) (by omega) (by omega) (by omega)
    refine j_iconst K dX2_schedule_9 ?_
    refine z_aload_n K dX2_schedule_10 rfl rfl rfl ?_
    refine z_get K fd_X2_18_2 (sH_shop) rfl dX2_schedule_11 ?_
    refine z_callV K (jl_size sH_ops) cV_X2_55_J2 (sH_ops) rfl rfl rfl (by omega) (by omega) (by omega) (Nat.le_of_ble_eq_true rfl) dX2_schedule_14 zrX (zrK ?_)
    obtain ⟨nn, hnn⟩ : ∃ nn : Nat, u' 0 1 = nn := ⟨(u' 0 1).toNat, by rw [e0]; omega⟩
    rw [hnn]
    refine z_ishl K dX2_schedule_17 ?_
    rw [sh_1 nn (by rw [e0] at hnn; omega)]
    refine j_iconst K dX2_schedule_18 ?_
    refine j_isub K dX2_schedule_19 ?_
    refine z_aload_n K dX2_schedule_20 rfl rfl rfl ?_
    refine z_get K fd_X2_137_2 (sH_shop) rfl dX2_schedule_21 ?_
    rw [e3, show (u 0 1).toNat = nn by rw [e0] at hnn; omega]
    refine j_iconst K dX2_schedule_24 ?_
    refine z_ixor K dX2_schedule_25 ?_
    refine z_iand K dX2_schedule_26 ?_
    rw [mk_left (by rw [e0] at hnn; omega), show nn = (u 0 1).toNat by rw [e0] at hnn; omega]
    refine z_istore_n K dX2_schedule_27 rfl (by decide) rfl ?_
    refine z_new K (N) nw_X2_185 (fr N (by omega)) (by omega) (by omega) (by omega) dX2_schedule_28 ?_
    refine z_dup K dX2_schedule_31 rfl ?_
    refine z_iload_n K dX2_schedule_32 rfl rfl ?_
    refine z_callS K (hc2) cS_X2_187 rfl rfl (by omega) (by omega) (by omega) (Nat.le_of_ble_eq_true rfl) dX2_schedule_33 zrX (zrK ?_)
    refine z_iload_n K dX2_schedule_36 rfl rfl ?_
    refine z_callS K (hc1) cS_X2_193 rfl rfl (by omega) (by omega) (by omega) (Nat.le_of_ble_eq_true rfl) dX2_schedule_37 zrX (zrK ?_)
    refine z_cI (fs := []) K (hc3) cI_X2_196 rfl rfl (by omega) (by omega) (by omega) (Nat.le_of_ble_eq_true rfl) dX2_schedule_40 zvX (zvK ?_)
    refine z_athrow K (zup_at _ _ _) rfl dX2_schedule_43 ?_
    refine z_out K rfl (by omega) (by omega) ⟨u', rd, st, hK, hR, hTp, hTq, hBd, Or.inr ⟨c_5, rfl, x, hx, ?_⟩⟩
    exact cyH_eq (by omega)
  · rw [bI_ne] at c_5
    exact z_vret K (by omega) (by omega) (⟨u', rd, st, hK, hR, hTp, hTq, hBd, Or.inl ⟨c_5, rfl, rfl⟩⟩) dX2_schedule_8
end XSe

