/-! ===== ArrayList: addAll, the constructors ===== -/
/-- the call of toArray() through Collection -/
theorem z_toArr {y : MethodName} {cc : ByteArray} {nL : Nat} {ret : Option FieldType} {hh : List (Nat × Nat × Nat × Nat)} {d kc ks : Nat} {X : zX} {Q : zO → zH → Prop} {h h2 : zH} {k n pc : Nat} {env : List (Nat × Value)} {st : List Value} (K : zK y cc nL ret hh d kc ks X) {idx nm d' mc' ms' count : Nat} {fs : List Value} {v : Value}
    (hM : zMet yJ2_toArray (ws_ yJ2_toArray cJ2_toArray 1 (some (.array (.object "java/lang/Object")))) d' [.ref nm] h (zRet v h2) mc' ms') (hlink : Cond.methodLink y.cls idx yToArr ∈ lw_all) (hobj : h nm = some (.inr (18, fs))) (hd : d' < d) (hk : k + mc' ≤ kc) (hn : n + ms' ≤ ks) (hcat : (st.map fun v => v.category).sum ≤ 8)
    (dd : decode cc pc = .ok (.invokeinterface idx count, 5)) (kk : zW X Q h2 (k + mc') (n + ms') (pc + 5) env (v :: st)) : zW X Q h k n pc env (.ref nm :: st) := by
  obtain ⟨p, l, e, R, s, m, args, below, meth, c, D, dA, r0, A, mc, ms⟩ := X
  obtain ⟨hx, hb, hml, hrt, hlk, hnm, hown, hts, hN, hNc, hK, hA0, hfl, hR, hmc, hms, hG, hTb⟩ := K
  intro r H locs ls st' g0 g1 g2 g3 g4 g5
  obtain ⟨b, rest, gr, rfl, g6⟩ := zvs_r g5
  obtain ⟨cell, q1, q2, q3⟩ := zcell (C := RJ2) hK g1 hobj gr rfl
  have has : zvs r [.ref nm] (.ref b :: [].reverse) := zvs.r gr rfl
  refine zx_after (len := 5) (a := (Value.ref b :: []).toArray) g0 g3 g4 g6 (fun T hT X => ?_) (zrK kk) zrX
  have hbk := zx_back (p := p) (e := e) (below := below) (s := s) (sargs := args) (len := 5) (R := R) (D := D) (dA := dA) (A := A) (l := l) hM hfl has (by rw [hR]; exact hd) (by rw [hR]; show 8 + (1 + 11) + 64 * d' ≤ 64 * d; omega) (zws hts q664) (Or.inl List.mem_cons_self) (fun a' U hW => word_at hW (Or.inl (by first | rfl | simp [Cond.onTables, Cond.keeps, Cond.steady])) (hts _ q93))
  obtain ⟨kB, hkB, -⟩ := Vm.findClass_spec q3
  obtain ⟨f1, f2, f3, f4, f5⟩ := hNc.2.2.2
  exact vx_callIF X hx hown (hts _ hlink) (va_any rfl f1) (va_any rfl f2) (hts _ q660) (hts _ q662) (va_any rfl f3) (va_any rfl f4) (va_any rfl f5) (hts _ q664) (by decide) hbk (by rw [hT]; exact q1) q2 q3 hkB (g := F0 m pc ls (.ref b :: rest)) rfl (by show ls.size = c.maxLocals; exact g4.1) (argsL := []) (rest := rest) (fun sig hs => zlen (z := yToArr) (by decide +kernel) hs) rfl (lv_room (by rw [g6.cats]; exact hcat)) (by rw [hb]; exact dd)
    (fun vm₁ hW => ⟨by rw [hR]; exact hk, by rw [hR]; exact hn, zPc.call hT hW g0 g1 g2 g3 hK hA0 hN hNc hG⟩)
theorem jl_init {h : zH} {L : Nat} {c1 : zC} (hL : h L = some (.inr (18, [.int 0, .null, .int 0]))) (h1 : h 1 = some c1) (hL8 : 1000 ≤ L) : zMet yJ2_init (ws_ yJ2_init cJ2_init 1 none) 4 [.ref L] h (zVd (zup h L (oL 0 1 0))) 0 0 := by
  have hc : ∀ h : zH, zMet yJ0_init (ws_ yJ0_init cJ0_init 1 none) 2 [.ref L] h (zVd h) 0 0 := fun h => by
    refine zMet.of (by decide) (Nat.le_of_ble_eq_true rfl) fun X K => ?_
    refine z_aload_n K dJ0_init_0 rfl rfl rfl ?_
    refine z_objInit K q157 (by omega) (Nat.le_of_ble_eq_true rfl) dJ0_init_1 ?_
    exact z_vret K (by omega) (by omega) (⟨rfl, rfl⟩) dJ0_init_4
  have hl : zMet yJ1_init (ws_ yJ1_init cJ1_init 1 none) 3 [.ref L] h (zVd (zup h L (.inr (18, [.int (iI 0), .null, .int 0])))) 0 0 := by
    refine zMet.of (by decide) (Nat.le_of_ble_eq_true rfl) fun X K => ?_
    refine z_aload_n K dJ1_init_0 rfl rfl rfl ?_
    refine z_cI (fs := []) K (hc _) cI_J1_1 rfl rfl (by omega) (by omega) (by omega) (Nat.le_of_ble_eq_true rfl) dJ1_init_1 zvX (zvK ?_)
    refine z_aload_n K dJ1_init_4 rfl rfl rfl ?_
    refine j_iconst K dJ1_init_5 ?_
    refine z_putE K fd_J1_7_18 (by first | exact ⟨_, rfl, Or.inl rfl⟩ | exact ⟨_, rfl, Or.inr ⟨rfl, rfl, rfl⟩⟩) (hL) (by omega) (Nat.le_of_ble_eq_true rfl) (zf_i) dJ1_init_6 (rfl) ?_
    exact z_vret K (by omega) (by omega) (⟨rfl, rfl⟩) dJ1_init_9
  refine zMet.of (by decide) (Nat.le_of_ble_eq_true rfl) fun X K => ?_
  refine z_aload_n K dJ2_init_0 rfl rfl rfl ?_
  refine z_cI (fs := []) K (hl) cI_J2_1 rfl rfl (by omega) (by omega) (by omega) (Nat.le_of_ble_eq_true rfl) dJ2_init_1 zvX (zvK ?_)
  refine z_aload_n K dJ2_init_4 rfl rfl rfl ?_
  refine z_gets K zst_0 q158 ((zup_ne (by omega)).trans h1) dJ2_init_5 ?_
  refine z_putE K fd_J2_9_18 (by first | exact ⟨_, rfl, Or.inl rfl⟩ | exact ⟨_, rfl, Or.inr ⟨rfl, rfl, rfl⟩⟩) (zup_at _ _ _) (by omega) (Nat.le_of_ble_eq_true rfl) (zf_a) dJ2_init_8 (zup_zup) ?_
  exact z_vret K (by omega) (by omega) (⟨rfl, rfl⟩) dJ2_init_11
theorem rF_cpy0 {k : Nat} {f : Nat → Nat} : va_cpy (rF k f) (rF 0 fun _ => 0) 0 0 k = rF k f := by
  funext j
  by_cases hj : j < k
  · rw [pk_cpy_in (by omega) (by omega), show 0 + (j - 0) = j by omega]
  · rw [pk_cpy_out (by omega)]
    unfold rF
    rw [if_neg (by omega), if_neg hj]
theorem zup5 {h : zH} {L nm : Nat} {A A' B B' B0 : zC} (hne : L ≠ nm) : zup (zup (zup (zup (zup h L B0) nm A) L B) nm A') L B' = zup (zup h nm A') L B' := by
  funext m
  by_cases e1 : m = L
  · subst e1; rw [zup_at, zup_at]
  · rw [zup_ne e1, zup_ne e1]
    by_cases e2 : m = nm
    · subst e2; rw [zup_at, zup_at]
    · rw [zup_ne e2, zup_ne e1, zup_ne e2, zup_ne e1, zup_ne e2]
theorem jl_addAll {h : zH} {L M a N k n0 nm : Nat} {c cM : Int} {f fL : Nat → Nat} {c7 : zC} (hL : h L = some (oL c 1 0)) (hM : h M = some (oL cM a k)) (h1 : h 1 = some (aR 0 0 fL)) (ha : h a = some (aR N k f)) (h7 : h 7 = some c7) (hk : k ≤ N) (hk3 : k ≤ 10) (hN : N ≤ 1000) (he : ∀ i, i < k → zOb h (f i)) (hf0 : h n0 = none) (hf : h nm = none) (hnn : n0 ≠ nm) (h80 : 1000 ≤ n0) (h8 : 1000 ≤ nm) (hL8 : 1000 ≤ L) :
    zMet yJ2_addAll (ws_ yJ2_addAll cJ2_addAll 6 (some .boolean)) 5 [.ref L, .ref M] h (fun o h' => ∃ b : Int, o = .inl (some (.int (iI b))) ∧ h' = (if k = 0 then zup (zup h n0 (aR 0 0 f)) L (oL (c + 1) 1 0) else zup (zup (zup h n0 (aR k k f)) nm (aR 10 k f)) L (oL (c + 1) nm k))) 2 40 := by
  have hLn : L ≠ nm := fun e => by rw [e, hf] at hL; cases hL
  have hL0 : L ≠ n0 := fun e => by rw [e, hf0] at hL; cases hL
  have hta := jl_toArray hM ha h7 hk hN he hf0 h80
  have hcl : ∀ z : Int, 0 ≤ z → z ≤ 100000 → (iI z).toNatClampNeg = z.toNat := fun z z0 z1 => iI_clamp z0 (by omega)
  refine zMet.of (by decide) (Nat.le_of_ble_eq_true rfl) fun X K => ?_
  refine z_aload_n K dJ2_addAll_0 rfl rfl rfl ?_
  refine z_toArr K hta q656 hM (by omega) (by omega) (by omega) (Nat.le_of_ble_eq_true rfl) dJ2_addAll_1 ?_
  refine z_astore_n K dJ2_addAll_6 rfl rfl (by decide) rfl ?_
  refine z_aload_n K dJ2_addAll_7 rfl rfl rfl ?_
  refine z_dup K dJ2_addAll_8 rfl ?_
  refine z_get K fd_J2_63_18 ((zup_ne hL0).trans hL) rfl dJ2_addAll_9 ?_
  refine j_iconst K dJ2_addAll_12 ?_
  refine j_iadd K dJ2_addAll_13 ?_
  refine z_putE K fd_J2_63_18 ⟨_, rfl, Or.inl rfl⟩ ((zup_ne hL0).trans hL) (by omega) (Nat.le_of_ble_eq_true rfl) (zf_i) dJ2_addAll_14 (rfl) ?_
  refine z_aload_n K dJ2_addAll_17 rfl rfl rfl ?_
  refine z_alen K ((zup_ne hL0.symm).trans (zup_at _ _ _)) rfl dJ2_addAll_18 ?_
  refine z_istore_n K dJ2_addAll_19 rfl (by decide) rfl ?_
  refine z_iload_n K dJ2_addAll_20 rfl rfl ?_
  refine j_if_ne (tgt := 26) K dJ2_addAll_21 rfl (by omega) (fun c_21 => ?_) (fun c_21 => ?_)
  · have hk0 : k ≠ 0 := by omega
    refine z_iload_n K dJ2_addAll_26 rfl rfl ?_
    refine z_aload_n K dJ2_addAll_27 rfl rfl rfl ?_
    refine z_get K fd_J2_9_18 (zup_at _ _ _) rfl dJ2_addAll_28 ?_
    refine z_dup K dJ2_addAll_31 rfl ?_
    refine z_astore K dJ2_addAll_32 rfl (by decide) rfl ?_
    refine z_alen K ((zup_ne (by omega)).trans ((zup_ne (by omega)).trans h1)) rfl dJ2_addAll_34 ?_
    refine z_aload_n K dJ2_addAll_35 rfl rfl rfl ?_
    refine z_get K fd_J2_48_18 (zup_at _ _ _) rfl dJ2_addAll_36 ?_
    refine z_dup K dJ2_addAll_39 rfl ?_
    refine z_istore K dJ2_addAll_40 (by decide) rfl ?_
    refine j_isub K dJ2_addAll_42 ?_
    refine j_icmp_le (tgt := 56) K dJ2_addAll_43 rfl (by omega) (by omega) (fun c_43 => ?_) (fun c_43 => ?_)
    · exact absurd c_43 (by omega)
    · refine z_aload_n K dJ2_addAll_46 rfl rfl rfl ?_
      refine z_iload K dJ2_addAll_47 rfl ?_
      refine z_iload_n K dJ2_addAll_49 rfl rfl ?_
      refine j_iadd K dJ2_addAll_50 ?_
      refine z_callV K (jl_growE (nm := nm) (f := fL) (zup_at _ _ _) ((zup_ne (by omega)).trans ((zup_ne (by omega)).trans h1)) (by omega) ((zup_ne hLn.symm).trans ((zup_ne hnn.symm).trans hf)) h8 hL8) cV_J2_69_J2 (zup_at _ _ _) rfl rfl rfl (by omega) (by omega) (by omega) (Nat.le_of_ble_eq_true rfl) dJ2_addAll_51 zrX (zrK ?_)
      refine z_astore K dJ2_addAll_54 rfl (by decide) rfl ?_
      refine z_aload_n K dJ2_addAll_56 rfl rfl rfl ?_
      refine j_iconst K dJ2_addAll_57 ?_
      refine z_aload K dJ2_addAll_58 rfl rfl ?_
      refine z_iload K dJ2_addAll_60 rfl ?_
      refine z_iload_n K dJ2_addAll_62 rfl rfl ?_
      refine z_copyq (N0 := k) (N1 := 10) (f := rF k f) (g := rF 0 (fun _ => 0)) K (fun i hi q hq => ?_) ((zup_ne hL0.symm).trans ((zup_ne hnn).trans ((zup_ne hL0.symm).trans (zup_at _ _ _)))) ((zup_ne hLn.symm).trans (zup_at _ _ _)) h8 q665 (iI_n0 (by omega) (by omega)) (iI_n0 (by omega) (by omega)) (iI_n0 (by omega) (by omega)) ?_ ?_ (by omega) (Nat.le_of_ble_eq_true rfl) dJ2_addAll_63 ?_
      · (have hik : i < k := by (by_cases z : i < k; exact z; exfalso; rw [hcl 0 (by omega) (by omega)] at hq; simp [rF, z] at hq)); rw [hcl 0 (by omega) (by omega)] at hq; simp [rF, hik] at hq; subst hq; (have n1 : f i ≠ n0 := fun e => by have z := he i hik; rw [e] at z; rcases z with ⟨_, _, _, o1, _, _⟩ | ⟨_, _, o1⟩ <;> (rw [hf0] at o1; cases o1)); (have n2 : f i ≠ nm := fun e => by have z := he i hik; rw [e] at z; rcases z with ⟨_, _, _, o1, _, _⟩ | ⟨_, _, o1⟩ <;> (rw [hf] at o1; cases o1)); refine zOb.upO (fs' := [.int (iI (c + 1)), .ref 1, .int (iI 0)]) ((((he i hik).up n1).upO (fs' := [.int (iI c), .ref 1, .int (iI 0)]) ((zup_ne hL0).trans hL)).up n2) ((zup_ne hLn).trans (zup_at _ _ _))
      · rw [hcl 0 (by omega) (by omega), hcl _ (by omega) (by omega)]; omega
      · rw [hcl 0 (by omega) (by omega), hcl _ (by omega) (by omega)]; omega
      refine z_aload_n K dJ2_addAll_66 rfl rfl rfl ?_
      refine z_iload K dJ2_addAll_67 rfl ?_
      refine z_iload_n K dJ2_addAll_69 rfl rfl ?_
      refine j_iadd K dJ2_addAll_70 ?_
      refine z_putE (h1 := zup (zup (zup h n0 (aR k k f)) nm (aR 10 k f)) L (oL (c + 1) nm k)) K fd_J2_48_18 ⟨_, rfl, Or.inl rfl⟩ ((zup_ne hLn).trans (zup_at _ _ _)) hL8 (Nat.le_of_ble_eq_true rfl) zf_i dJ2_addAll_71 ?he ?_
      · rw [hcl 0 (by omega) (by omega), hcl _ (by omega) (by omega), show (0 : Int).toNat = 0 from rfl, show ((k : Nat) : Int).toNat = k by omega, show va_cpy (rF k f) (rF 0 fun _ => 0) 0 0 k = rF k f from rF_cpy0, Int.zero_add]; exact zup5 hLn
      refine j_iconst K dJ2_addAll_74 ?_
      exact z_zret K (iI_b (by omega)) (by omega) (by omega) (⟨1, rfl, by rw [if_neg hk0]⟩) dJ2_addAll_75
  · obtain rfl : k = 0 := by omega
    refine j_iconst K dJ2_addAll_24 ?_
    exact z_zret K (iI_b (by omega)) (by omega) (by omega) (⟨0, rfl, by rw [if_pos rfl]; rfl⟩) dJ2_addAll_25

