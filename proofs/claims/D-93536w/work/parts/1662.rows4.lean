/-! ===== Object's constructor, arraycopy of bytes and references, clone, arrays of longs and doubles (printed by tools/genrows4.py) ===== -/
section ZR4
variable {y : MethodName} {cc : ByteArray} {nL : Nat} {ret : Option FieldType} {hh : List (Nat × Nat × Nat × Nat)} {d kc ks : Nat} {X : zX} {Q : zO → zH → Prop} {h : zH} {k n pc : Nat} {env : List (Nat × Value)} {st : List Value}
theorem z_objInit (K : zK y cc nL ret hh d kc ks X) {idx nm : Nat} (hl : Jvm.Cond.methodLink y.cls idx Lib.objectInit ∈ lw_all) (hd : 1 ≤ d) (hcat : (st.map fun v => v.category).sum ≤ 8) (dd : decode cc pc = .ok (.invokespecial idx, 3)) (kk : zW X Q h k n (pc + 3) env st) : zW X Q h k n pc env (.ref nm :: st) := by
  obtain ⟨p, l, e, R, s, m, args, below, meth, c, D, dA, r0, A, mc, ms⟩ := X
  obtain ⟨hx, hb, hml, hrt, hlk, hnm, hown, hts, hN, hNc, hK, hA0, hfl, hR, hmc, hms, hG, hTb⟩ := K
  intro r H locs ls st' g0 g1 g2 g3 g4 g5
  obtain ⟨a, rest, gr, rfl, g6⟩ := zvs_r g5
  exact W.objInit hx hb hown (hts _ hl) (hts _ q138) (hts _ q139) (g := F0 m pc ls (.ref a :: rest)) rfl (by show ls.size = c.maxLocals; exact g4.1) rfl dd (by rw [hR]; exact hd) (by rw [hR]; show 2 * 0 + _ + 12 ≤ 64 * d; rw [g6.cats]; omega) (kk r H locs ls _ g0 g1 g2 g3 g4 g6)
theorem z_copyb (K : zK y cc nL ret hh d kc ks X) {idx n0 nm N0 N1 : Nat} {f g : Nat → Int32} {sp dp cnt : Int32} (hfit : ∀ j, j < N0 → fits .byte (.int (f j)) = true) (h0 : h n0 = some (.inl (1, N0, .inl f))) (h1 : h nm = some (.inl (1, N1, .inl g))) (h8 : 1000 ≤ nm) (hw : Jvm.Cond.methodLink y.cls idx arraycopyName ∈ lw_all)
    (i1 : ¬ sp < 0) (i2 : ¬ dp < 0) (i3 : ¬ cnt < 0) (i4 : sp.toNatClampNeg + cnt.toNatClampNeg ≤ N0) (i5 : dp.toNatClampNeg + cnt.toNatClampNeg ≤ N1) (hd : 1 ≤ d) (hcat : (st.map fun v => v.category).sum ≤ 8) (dd : decode cc pc = .ok (.invokestatic idx, 3))
    (kk : zW X Q (zup h nm (.inl (1, N1, .inl (va_cpy f g sp.toNatClampNeg dp.toNatClampNeg cnt.toNatClampNeg)))) k n (pc + 3) env st) : zW X Q h k n pc env (.int cnt :: .int dp :: .ref nm :: .int sp :: .ref n0 :: st) := by
  obtain ⟨p, l, e, R, s, m, args, below, meth, c, D, dA, r0, A, mc, ms⟩ := X
  obtain ⟨hx, hb, hml, hrt, hlk, hnm, hown, hts, hN, hNc, hK, hA0, hfl, hR, hmc, hms, hG, hT⟩ := K
  intro r H locs ls st' g0 g1 g2 g3 g4 g5
  obtain ⟨_, rfl, g6⟩ := zvs_i g5
  obtain ⟨_, rfl, g7⟩ := zvs_i g6
  obtain ⟨a, _, gr, rfl, g8⟩ := zvs_r g7
  obtain ⟨_, rfl, g9⟩ := zvs_i g8
  obtain ⟨a0, rest, gr0, rfl, g10⟩ := zvs_r g9
  have hc0 : H[a0]? = some (vp_cell (dA 1) (N0, .inl f)) := g1.at h0 gr0
  have hc1 : H[a]? = some (vp_cell (dA 1) (N1, .inl g)) := g1.at h1 gr
  have nn : ∀ z : Int32, ¬ z < 0 → z.toInt = (z.toNatClampNeg : Int) := by
    intro z hz
    have hz0 : (0 : Int) ≤ z.toInt := by
      have := Int32.not_lt.mp hz
      simpa using Int32.le_iff_toInt_le.mp this
    show z.toInt = ((z.toInt.toNat : Nat) : Int)
    omega
  intro T hT2 X
  obtain ⟨-, k0, hk0, cm0, hkk0⟩ := (hK.2 1 _ rfl).1 N0 (fun j => .int (f j))
  obtain ⟨-, k1, hk1, cm1, hkk1⟩ := (hK.2 1 _ rfl).1 N1 (fun j => .int (g j))
  have hml2 : c.maxLocals = ls.size := g4.1.symm
  have hnw : nativeFrameWords "java/lang/System" "arraycopy" 5 ≤ 40 := by decide +kernel
  have hroom : 2 * 0 + (rest.map fun v => v.category).sum + (nativeFrameWords "java/lang/System" "arraycopy" 5 + 11) ≤ R.locals := by
    rw [hR, g10.cats]
    show 2 * 0 + (st.map fun v => v.category).sum + (nativeFrameWords "java/lang/System" "arraycopy" 5 + 11) ≤ 64 * d
    omega
  obtain ⟨vm', X', step⟩ := X.arraycopy hx hown (hts _ hw) (hts _ q243) (hts _ q242) (hts _ q97) (src := a0) (dst := a) (cs := vp_cell (dA 1) (N0, .inl f)) (cd := vp_cell (dA 1) (N1, .inl g)) (srcPos := sp) (destPos := dp) (n := cnt) (by rw [hT2]; exact hc0) (by rw [hT2]; exact hc1)
    (fun _ h => by cases h) (fun _ h => by cases h) (fun h => by cases h) (fun h => by cases h) hk0 hk1 hkk0 hkk1 (by rfl) i1 i2 i3
    (by rw [nn sp i1, nn cnt i3]; show ¬ _ > ((arrV (dA 1) N0 (fun j => .int (f j))).slots.size : Int); rw [arrV_size]; omega)
    (by rw [nn dp i2, nn cnt i3]; show ¬ _ > ((arrV (dA 1) N1 (fun j => .int (g j))).slots.size : Int); rw [arrV_size]; omega)
    (fun vm₁ _ i hi => by
      have e : (vp_cell (dA 1) (N0, .inl f)).slots.getD (sp.toNatClampNeg + i) .null = .int (f (sp.toNatClampNeg + i)) := by
        show (arrV (dA 1) N0 (fun j => .int (f j))).slots.getD _ _ = _
        rw [Array.getD_eq_getD_getElem?, arrV_read _ _ (by omega)]
        rfl
      refine ⟨?_, ?_⟩
      · rw [e]
        exact hfit _ (by omega)
      · rw [e]
        exact trivial)
    (g := F0 m pc ls (.int cnt :: .int dp :: .ref a :: .int sp :: .ref a0 :: rest)) rfl (by rw [hml2]) (rest := rest) rfl (by rw [hb]; exact dd) (by rw [hR]; exact hd) hroom
  have e1 : copied (vp_cell (dA 1) (N0, .inl f)) (vp_cell (dA 1) (N1, .inl g)) sp dp cnt = vp_cell (dA 1) (N1, .inl (va_cpy f g sp.toNatClampNeg dp.toNatClampNeg cnt.toNatClampNeg)) := va_copied (fun z => .int z) (dA 1) (dA 1) f g i4
  rw [e1] at X' step
  have hl : a < H.size := (Array.getElem?_eq_some_iff.mp hc1).1
  have hheap : ((T.setVm vm').setCell a (vp_cell (dA 1) (N1, .inl (va_cpy f g sp.toNatClampNeg dp.toNatClampNeg cnt.toNatClampNeg)))).heap = H.setIfInBounds a (vp_cell (dA 1) (N1, .inl (va_cpy f g sp.toNatClampNeg dp.toNatClampNeg cnt.toNatClampNeg))) := by rw [← hT2]; rfl
  have oq : ∀ q : Nat, q ≠ a → (H.setIfInBounds a (vp_cell (dA 1) (N1, .inl (va_cpy f g sp.toNatClampNeg dp.toNatClampNeg cnt.toNatClampNeg))))[q]? = H[q]? := fun q hq => by simp [Array.getElem?_setIfInBounds, Ne.symm hq]
  have hz : (H.setIfInBounds a (vp_cell (dA 1) (N1, .inl (va_cpy f g sp.toNatClampNeg dp.toNatClampNeg cnt.toNatClampNeg)))).size = H.size := by simp
  have hAa : A a := g2.1 nm a h8 gr
  obtain ⟨t, a1, b1⟩ := kk r _ _ ls _ g0 (g1.put h1 h8 gr (show (H.setIfInBounds a _)[a]? = some _ by simp [Array.getElem?_setIfInBounds, hl]) hz oq) g2 ⟨by simp; exact g3.1, fun q z1 z2 => by
      rw [oq q (fun e => z2 (by rw [e]; exact hAa))]
      exact g3.2.1 q z1 z2, fun q hq => by
      rcases List.mem_append.mp hq with h | h
      · exact g3.2.2 q h
      · obtain ⟨z, -, hz⟩ := List.mem_map.mp h
        rw [← hz]
        exact hAa⟩ g4 g10 _ hheap X'
  exact ⟨t, step t a1, b1⟩

/-- an object that an array of Object takes -/
def zObj (h : zH) (q : Nat) : Prop := ∃ (ci : Nat) (fs : List Value) (C : String), h q = some (.inr (ci, fs)) ∧ (zcl[ci]?).map (fun q => q.1) = some C ∧ Jvm.Cond.castable C "java/lang/Object" ∈ lw_tbl
theorem z_copyr (K : zK y cc nL ret hh d kc ks X) {idx n0 nm N0 N1 : Nat} {f g : Nat → Option Nat} {sp dp cnt : Int32} (hel : ∀ i : Nat, i < cnt.toNatClampNeg → ∀ q : Nat, f (sp.toNatClampNeg + i) = some q → zObj h q) (h0 : h n0 = some (.inl (6, N0, .inr (.inr (.inr (.inr f)))))) (h1 : h nm = some (.inl (6, N1, .inr (.inr (.inr (.inr g)))))) (h8 : 1000 ≤ nm) (hs0 : N0 ≠ 0 ∨ 1000 ≤ n0) (hw : Jvm.Cond.methodLink y.cls idx arraycopyName ∈ lw_all)
    (i1 : ¬ sp < 0) (i2 : ¬ dp < 0) (i3 : ¬ cnt < 0) (i4 : sp.toNatClampNeg + cnt.toNatClampNeg ≤ N0) (i5 : dp.toNatClampNeg + cnt.toNatClampNeg ≤ N1) (hd : 1 ≤ d) (hcat : (st.map fun v => v.category).sum ≤ 8) (dd : decode cc pc = .ok (.invokestatic idx, 3))
    (kk : zW X Q (zup h nm (.inl (6, N1, .inr (.inr (.inr (.inr (va_cpy f g sp.toNatClampNeg dp.toNatClampNeg cnt.toNatClampNeg))))))) k n (pc + 3) env st) : zW X Q h k n pc env (.int cnt :: .int dp :: .ref nm :: .int sp :: .ref n0 :: st) := by
  obtain ⟨p, l, e, R, s, m, args, below, meth, c, D, dA, r0, A, mc, ms⟩ := X
  obtain ⟨hx, hb, hml, hrt, hlk, hnm, hown, hts, hN, hNc, hK, hA0, hfl, hR, hmc, hms, hG, hT⟩ := K
  intro r H locs ls st' g0 g1 g2 g3 g4 g5
  obtain ⟨_, rfl, g6⟩ := zvs_i g5
  obtain ⟨_, rfl, g7⟩ := zvs_i g6
  obtain ⟨a, _, gr, rfl, g8⟩ := zvs_r g7
  obtain ⟨_, rfl, g9⟩ := zvs_i g8
  obtain ⟨a0, rest, gr0, rfl, g10⟩ := zvs_r g9
  obtain ⟨f', hf', hc0⟩ := g1.at h0 gr0 (hs0.imp (fun q => show (N0 == 0) = false from beq_false_of_ne q) id)
  obtain ⟨g', hg', hc1⟩ := g1.at h1 gr
  have hc0 : H[a0]? = some (vp_cell (dA 6) (N0, .inr (.inr (.inr (.inr f'))))) := hc0
  have hc1 : H[a]? = some (vp_cell (dA 6) (N1, .inr (.inr (.inr (.inr g'))))) := hc1
  have nn : ∀ z : Int32, ¬ z < 0 → z.toInt = (z.toNatClampNeg : Int) := by
    intro z hz
    have hz0 : (0 : Int) ≤ z.toInt := by
      have := Int32.not_lt.mp hz
      simpa using Int32.le_iff_toInt_le.mp this
    show z.toInt = ((z.toInt.toNat : Nat) : Int)
    omega
  intro T hT2 X
  obtain ⟨-, k0, hk0, cm0, hkk0⟩ := (hK.2 6 _ rfl).1 N0 (fun j => va_rf (f' j))
  obtain ⟨-, k1, hk1, cm1, hkk1⟩ := (hK.2 6 _ rfl).1 N1 (fun j => va_rf (g' j))
  have hml2 : c.maxLocals = ls.size := g4.1.symm
  have hnw : nativeFrameWords "java/lang/System" "arraycopy" 5 ≤ 40 := by decide +kernel
  have hroom : 2 * 0 + (rest.map fun v => v.category).sum + (nativeFrameWords "java/lang/System" "arraycopy" 5 + 11) ≤ R.locals := by
    rw [hR, g10.cats]
    show 2 * 0 + (st.map fun v => v.category).sum + (nativeFrameWords "java/lang/System" "arraycopy" 5 + 11) ≤ 64 * d
    omega
  obtain ⟨vm', X', step⟩ := X.arraycopy hx hown (hts _ hw) (hts _ q243) (hts _ q242) (hts _ q97) (src := a0) (dst := a) (cs := vp_cell (dA 6) (N0, .inr (.inr (.inr (.inr f'))))) (cd := vp_cell (dA 6) (N1, .inr (.inr (.inr (.inr g'))))) (srcPos := sp) (destPos := dp) (n := cnt) (by rw [hT2]; exact hc0) (by rw [hT2]; exact hc1)
    (fun _ h => by cases h) (fun _ h => by cases h) (fun h => by cases h) (fun h => by cases h) hk0 hk1 hkk0 hkk1 (by rfl) i1 i2 i3
    (by rw [nn sp i1, nn cnt i3]; show ¬ _ > ((arrV (dA 6) N0 (fun j => va_rf (f' j))).slots.size : Int); rw [arrV_size]; omega)
    (by rw [nn dp i2, nn cnt i3]; show ¬ _ > ((arrV (dA 6) N1 (fun j => va_rf (g' j))).slots.size : Int); rw [arrV_size]; omega)
    (fun vm₁ hal i hi => by
      have e : (vp_cell (dA 6) (N0, .inr (.inr (.inr (.inr f'))))).slots.getD (sp.toNatClampNeg + i) .null = va_rf (f' (sp.toNatClampNeg + i)) := by
        show (arrV (dA 6) N0 (fun j => va_rf (f' j))).slots.getD _ _ = _
        rw [Array.getD_eq_getD_getElem?, arrV_read _ _ (by omega)]
        rfl
      rw [e]
      have hz := hf' (sp.toNatClampNeg + i)
      cases hy : f (sp.toNatClampNeg + i) with
      | none =>
        rw [hy] at hz
        have hz : f' (sp.toNatClampNeg + i) = none := hz
        rw [hz]
        exact ⟨rfl, trivial⟩
      | some q =>
        rw [hy] at hz
        obtain ⟨aq, z1, z2⟩ := hz
        rw [z2]
        obtain ⟨ci, fs, C, o1, o2, o3⟩ := hel i hi q hy
        obtain ⟨cellV, w1, w2, w3⟩ := zcell hK g1 o1 z1 o2
        obtain ⟨kA, comp, r1, r2, r3, -⟩ := (hK.2 6 _ rfl).2
        cases hk1.symm.trans r1
        cases hkk1.symm.trans r2
        obtain ⟨kE, hkE, -⟩ := Vm.findClass_spec r3
        obtain ⟨kC, hkC, -⟩ := Vm.findClass_spec w3
        obtain ⟨kC', hkC', -⟩ := hal.2.2 _ _ hkC
        obtain ⟨kE', hkE', -⟩ := hal.2.2 _ _ hkE
        refine ⟨rfl, cellV, (show T.heap[aq]? = some cellV by rw [hT2]; exact w1), (fun q h => by rw [h] at w2; cases w2), ⟨kC', hkC'⟩, ?_, ?_⟩
        · exact ⟨kE', hkE'⟩
        · show vm₁.assignable _ _ = true
          rw [hal.assignable]
          exact vb_asgC (hN _ o3 rfl) _ _ r3 w3)
    (g := F0 m pc ls (.int cnt :: .int dp :: .ref a :: .int sp :: .ref a0 :: rest)) rfl (by rw [hml2]) (rest := rest) rfl (by rw [hb]; exact dd) (by rw [hR]; exact hd) hroom
  have e1 : copied (vp_cell (dA 6) (N0, .inr (.inr (.inr (.inr f'))))) (vp_cell (dA 6) (N1, .inr (.inr (.inr (.inr g'))))) sp dp cnt = vp_cell (dA 6) (N1, .inr (.inr (.inr (.inr (va_cpy f' g' sp.toNatClampNeg dp.toNatClampNeg cnt.toNatClampNeg))))) := by
    rw [vp_cell_q, vp_cell_q, vp_cell_q]
    exact va_copied (fun z => va_rf z) (dA 6) (dA 6) f' g' i4
  rw [e1] at X' step
  have hl : a < H.size := (Array.getElem?_eq_some_iff.mp hc1).1
  have hheap : ((T.setVm vm').setCell a (vp_cell (dA 6) (N1, .inr (.inr (.inr (.inr (va_cpy f' g' sp.toNatClampNeg dp.toNatClampNeg cnt.toNatClampNeg))))))).heap = H.setIfInBounds a (vp_cell (dA 6) (N1, .inr (.inr (.inr (.inr (va_cpy f' g' sp.toNatClampNeg dp.toNatClampNeg cnt.toNatClampNeg)))))) := by rw [← hT2]; rfl
  have oq : ∀ q : Nat, q ≠ a → (H.setIfInBounds a (vp_cell (dA 6) (N1, .inr (.inr (.inr (.inr (va_cpy f' g' sp.toNatClampNeg dp.toNatClampNeg cnt.toNatClampNeg)))))))[q]? = H[q]? := fun q hq => by simp [Array.getElem?_setIfInBounds, Ne.symm hq]
  have hz : (H.setIfInBounds a (vp_cell (dA 6) (N1, .inr (.inr (.inr (.inr (va_cpy f' g' sp.toNatClampNeg dp.toNatClampNeg cnt.toNatClampNeg))))))).size = H.size := by simp
  have hcp : zrf r (va_cpy f g sp.toNatClampNeg dp.toNatClampNeg cnt.toNatClampNeg) (va_cpy f' g' sp.toNatClampNeg dp.toNatClampNeg cnt.toNatClampNeg) := fun j => by
    by_cases hj : dp.toNatClampNeg ≤ j ∧ j < dp.toNatClampNeg + cnt.toNatClampNeg
    · rw [pk_cpy_in hj.1 hj.2, pk_cpy_in hj.1 hj.2]
      exact hf' _
    · rw [pk_cpy_out (by omega), pk_cpy_out (by omega)]
      exact hg' j
  have hAa : A a := g2.1 nm a h8 gr
  obtain ⟨t, a1, b1⟩ := kk r _ _ ls _ g0 (g1.put h1 h8 gr ⟨_, hcp, show (H.setIfInBounds a _)[a]? = some _ by simp [Array.getElem?_setIfInBounds, hl]⟩ hz oq) g2 ⟨by simp; exact g3.1, fun q z1 z2 => by
      rw [oq q (fun e => z2 (by rw [e]; exact hAa))]
      exact g3.2.1 q z1 z2, fun q hq => by
      rcases List.mem_append.mp hq with h | h
      · exact g3.2.2 q h
      · obtain ⟨z, -, hz⟩ := List.mem_map.mp h
        rw [← hz]
        exact hAa⟩ g4 g10 _ hheap X'
  exact ⟨t, step t a1, b1⟩

theorem z_cloneb (K : zK y cc nL ret hh d kc ks X) {idx n0 N : Nat} {f : Nat → Int32} (nm : Nat) (h0 : h n0 = some (.inl (1, N, .inl f))) (hfit : ∀ j, j < N → fits .byte (.int (f j)) = true) (hlink : Jvm.Cond.methodLink y.cls idx ⟨"[B", "clone", "()Ljava/lang/Object;"⟩ ∈ lw_all) (hsame : Jvm.Cond.sameMethod "[B" "java/lang/Object" "clone" "()Ljava/lang/Object;" ∈ lw_all) (hinst : Jvm.Cond.instanceMethod ⟨"java/lang/Object", "clone", "()Ljava/lang/Object;"⟩ ∈ lw_all) (hsel : Jvm.Cond.selects "[B" ⟨"[B", "clone", "()Ljava/lang/Object;"⟩ ⟨"java/lang/Object", "clone", "()Ljava/lang/Object;"⟩ ∈ lw_all) (hf : h nm = none) (h8 : 1000 ≤ nm) (hd : 1 ≤ d) (hcat : (st.map fun v => v.category).sum ≤ 8) (hk : k + 1 ≤ kc) (hn : n + N ≤ ks) (dd : decode cc pc = .ok (.invokevirtual idx, 3))
    (kk : zW X Q (zup h nm (.inl (1, N, .inl f))) (k + 1) (n + N) (pc + 3) env (.ref nm :: st)) : zW X Q h k n pc env (.ref n0 :: st) := by
  obtain ⟨p, l, e, R, s, m, args, below, meth, c, D, dA, r0, A, mc, ms⟩ := X
  obtain ⟨hx, hb, hml, hrt, hlk, hnm, hown, hts, hN, hNc, hK, hA0, hfl, hR, hmc, hms, hG, hTb⟩ := K
  intro r H locs ls st' g0 g1 g2 g3 g4 g5
  obtain ⟨a, rest, gr, rfl, g6⟩ := zvs_r g5
  have hat : H[a]? = some (vp_cell (dA 1) (N, .inl f)) := g1.at h0 gr
  have hcl : s.vm.findClass "[B" = some (dA 1) := (hK.2 1 _ rfl).2
  obtain ⟨c0, t0', f1, f2, f3⟩ := Cond.castable_spec (va_Nw.use (A := args) rfl (hN _ q1376 rfl))
  cases hcl.symm.trans f1
  intro T hT X
  have hcellT : T.heap[a]? = some (vp_cell (dA 1) (N, .inl f)) := by rw [hT]; exact hat
  obtain ⟨-, kA, hkA, comp, hkind⟩ := State.isArrayOf_alike X.warmed.alike ((hK.2 1 _ rfl).1 0 (fun _ => .null))
  obtain ⟨-, kS, hkS, compS, hkindS⟩ := (hK.2 1 _ rfl).1 0 (fun _ => .null)
  obtain ⟨vm', X', st9⟩ := X.cloneArray hx hown (hts _ hlink) (hts _ hsame) (hts _ q1373) (hts _ hinst) (hts _ hsel) (a := a) (cell := vp_cell (dA 1) (N, .inl f)) hcellT (fun k h => by cases h) (fun h => by cases h) hcl f2 f3
    (fun i v hv => by
      have hk' : T.vm.classes[dA 1]? = some kA := hkA
      have hlt : i < N := by
        have := (Array.getElem?_eq_some_iff.mp hv).1
        rw [show (vp_cell (dA 1) (N, .inl f)).slots.size = N from arrV_size _ _ _] at this
        exact this
      have e9 : (vp_cell (dA 1) (N, .inl f)).slots[i]? = some (.int (f i)) := arrV_read _ _ hlt
      rw [e9] at hv
      cases hv
      have hcls9 : (vp_cell (dA 1) (N, .inl f)).cls = dA 1 := rfl
      have hvm9 : (vp_cell (dA 1) (N, .inl f)).vm = .none := rfl
      have hf9 : fits (zft 1) (.int (f i)) = true := hfit i hlt
      simpa [State.fitsSlot, State.slotType?, hcls9, hvm9, hk', hkind] using hf9)
    (g := F0 m pc ls (.ref a :: rest)) rfl (by rw [g4.1]) rfl (by rw [hb]; exact dd) (by rw [hR]; exact hd) (by rw [hR]; show 2 * 0 + _ + 14 ≤ 64 * d; rw [g6.cats]; omega) (by rw [hR]; exact hk) (by rw [hR, show (vp_cell (dA 1) (N, .inl f)).slots.size = N from arrV_size _ _ _]; exact hn) (hloader := Vm.clonesLoader_of_array hkS hkindS)
  rw [show ({ cls := (vp_cell (dA 1) (N, .inl f)).cls, slots := (vp_cell (dA 1) (N, .inl f)).slots } : Cell) = vp_cell (dA 1) (N, .inl f) from rfl, show (vp_cell (dA 1) (N, .inl f)).slots.size = N from arrV_size _ _ _] at X'
  generalize hH1 : H.push (vp_cell (dA 1) (N, .inl f)) = H1
  have z1 : H1.size = H.size + 1 := by rw [← hH1, Array.size_push]
  have e1 : H1[H.size]? = some (vp_cell (dA 1) (N, .inl f)) := by rw [← hH1, Array.getElem?_push_size]
  have o1 : ∀ q : Nat, q < H.size → H1[q]? = H[q]? := fun q hq => by rw [← hH1, Array.getElem?_push, if_neg (Nat.ne_of_lt hq)]
  have hpush := g1.push hf h8 z1 o1 (c := .inl (1, N, .inl f)) e1
  obtain ⟨t, b1, b2⟩ := kk _ H1 locs ls _ (g0.tr hpush.2) hpush.1 (g2.push h8 (hA0 _ g3.1)) (g3.push z1 o1) (g4.mono hpush.2) (zvs.r (zrup_at _ _ _) (g6.mono hpush.2)) ((T.setVm vm').pushCell (vp_cell (dA 1) (N, .inl f))) (by rw [← hH1, ← hT]; rfl) X'
  refine ⟨t, st9 t ?_, b2⟩
  rw [hT]
  exact b1
theorem z_lald (K : zK y cc nL ret hh d kc ks X) {nm N : Nat} {f : Nat → Int64} {i : Int32} (hn : h nm = some (.inl (4, N, .inr (.inl f)))) (hin : vp_in i N) (dd : decode cc pc = .ok (.laload, 1))
    (kk : zW X Q h k n (pc + 1) env (.long (f i.toNatClampNeg) :: st)) : zW X Q h k n pc env (.int i :: .ref nm :: st) := by
  obtain ⟨p, l, e, R, s, m, args, below, meth, c, D, dA, r0, A, mc, ms⟩ := X
  obtain ⟨hx, hb, hml, hrt, hlk, hnm, hown, hts, hN, hNc, hK, hA0, hfl, hR, hmc, hms, hG, hTb⟩ := K
  intro r H locs ls st' g0 g1 g2 g3 g4 g5
  obtain ⟨_, rfl, g6⟩ := zvs_i g5
  obtain ⟨a, _, gr, rfl, g7⟩ := zvs_r g6
  have hat : va_at D zcl (a, .inl (dA 4, N, .inr (.inl f))) H := g1.at hn gr
  exact va_lald hx hb hK (zP1 hat) 0 4 rfl rfl hin dd (kk r H locs ls _ g0 g1 g2 g3 g4 g7.l)
theorem z_last (K : zK y cc nL ret hh d kc ks X) {nm N : Nat} {f : Nat → Int64} {i : Int32} {x : Int64} (hn : h nm = some (.inl (4, N, .inr (.inl f)))) (h8 : 1000 ≤ nm) (hin : vp_in i N) (dd : decode cc pc = .ok (.lastore, 1))
    (kk : zW X Q (zup h nm (.inl (4, N, .inr (.inl (vp_updL f i.toNatClampNeg x))))) k n (pc + 1) env st) : zW X Q h k n pc env (.long x :: .int i :: .ref nm :: st) := by
  obtain ⟨p, l, e, R, s, m, args, below, meth, c, D, dA, r0, A, mc, ms⟩ := X
  obtain ⟨hx, hb, hml, hrt, hlk, hnm, hown, hts, hN, hNc, hK, hA0, hfl, hR, hmc, hms, hG, hTb⟩ := K
  intro r H locs ls st' g0 g1 g2 g3 g4 g5
  obtain ⟨_, rfl, g6⟩ := zvs_l g5
  obtain ⟨_, rfl, g7⟩ := zvs_i g6
  obtain ⟨a, _, gr, rfl, g8⟩ := zvs_r g7
  have hat : H[a]? = some (vp_cell (dA 4) (N, .inr (.inl f))) := g1.at hn gr
  refine W.last hx hb hat ((hK.2 4 _ rfl).1 N (fun j => .long (f j))) (fun q => by cases q) (by show ¬ (i < 0 ∨ (arrV _ _ _).slots.size ≤ _); rw [arrV_size]; exact hin) rfl rfl dd fun H1 e z oq => ?_
  refine kk r H1 _ ls _ g0 (g1.put hn h8 gr ?_ z oq) g2 (g3.put z oq (g2.1 nm a h8 gr)) g4 g8
  show H1[a]? = some (vp_cell _ _)
  rw [e]
  rw [vp_cell_l, vp_cell_l, arrV_store]
  congr 2
  funext q
  by_cases hq : q = i.toNatClampNeg
  · subst hq
    simp [updV, vp_updL]
    try rfl
  · simp [updV, vp_updL, hq]
theorem z_dald (K : zK y cc nL ret hh d kc ks X) {nm N : Nat} {f : Nat → UInt64} {i : Int32} (hn : h nm = some (.inl (5, N, .inr (.inr (.inr (.inl f)))))) (hin : vp_in i N) (dd : decode cc pc = .ok (.daload, 1))
    (kk : zW X Q h k n (pc + 1) env (.double (f i.toNatClampNeg) :: st)) : zW X Q h k n pc env (.int i :: .ref nm :: st) := by
  obtain ⟨p, l, e, R, s, m, args, below, meth, c, D, dA, r0, A, mc, ms⟩ := X
  obtain ⟨hx, hb, hml, hrt, hlk, hnm, hown, hts, hN, hNc, hK, hA0, hfl, hR, hmc, hms, hG, hTb⟩ := K
  intro r H locs ls st' g0 g1 g2 g3 g4 g5
  obtain ⟨_, rfl, g6⟩ := zvs_i g5
  obtain ⟨a, _, gr, rfl, g7⟩ := zvs_r g6
  have hat : va_at D zcl (a, .inl (dA 5, N, .inr (.inr (.inr (.inl f))))) H := g1.at hn gr
  exact va_dald hx hb hK (zP1 hat) 0 5 rfl rfl hin dd (kk r H locs ls _ g0 g1 g2 g3 g4 g7.d)
theorem z_dast (K : zK y cc nL ret hh d kc ks X) {nm N : Nat} {f : Nat → UInt64} {i : Int32} {x : UInt64} (hn : h nm = some (.inl (5, N, .inr (.inr (.inr (.inl f)))))) (h8 : 1000 ≤ nm) (hin : vp_in i N) (dd : decode cc pc = .ok (.dastore, 1))
    (kk : zW X Q (zup h nm (.inl (5, N, .inr (.inr (.inr (.inl (vf_upd f i.toNatClampNeg x))))))) k n (pc + 1) env st) : zW X Q h k n pc env (.double x :: .int i :: .ref nm :: st) := by
  obtain ⟨p, l, e, R, s, m, args, below, meth, c, D, dA, r0, A, mc, ms⟩ := X
  obtain ⟨hx, hb, hml, hrt, hlk, hnm, hown, hts, hN, hNc, hK, hA0, hfl, hR, hmc, hms, hG, hTb⟩ := K
  intro r H locs ls st' g0 g1 g2 g3 g4 g5
  obtain ⟨_, rfl, g6⟩ := zvs_d g5
  obtain ⟨_, rfl, g7⟩ := zvs_i g6
  obtain ⟨a, _, gr, rfl, g8⟩ := zvs_r g7
  have hat : H[a]? = some (vp_cell (dA 5) (N, .inr (.inr (.inr (.inl f))))) := g1.at hn gr
  refine W.dast hx hb hat ((hK.2 5 _ rfl).1 N (fun j => .double (f j))) (fun q => by cases q) (by show ¬ (i < 0 ∨ (arrV _ _ _).slots.size ≤ _); rw [arrV_size]; exact hin) rfl rfl dd fun H1 e z oq => ?_
  refine kk r H1 _ ls _ g0 (g1.put hn h8 gr ?_ z oq) g2 (g3.put z oq (g2.1 nm a h8 gr)) g4 g8
  show H1[a]? = some (vp_cell _ _)
  rw [e]
  rw [vp_cell_d, vp_cell_d, arrV_store]
  congr 2
  funext q
  by_cases hq : q = i.toNatClampNeg
  · subst hq
    simp [updV, vf_upd]
    try rfl
  · simp [updV, vf_upd, hq]
theorem zE.store2 {r : zR} {nL : Nat} {env : List (Nat × Value)} {ls ls' : Array Slot} (h : zE r nL env ls) {i : Nat} {x : UInt64} (hz : zlo env i = true) (hz1 : zl env (i + 1) = none)
    (hl : lv_has ls' nL ((i, .double x) :: (zreal env ls).filter (fun q => !(q.1 == i) && (!(q.1 == i + 1) && !(q.1 + 1 == i && q.2.category == 2))))) : zE r nL ((i, .double x) :: env) ls' := by
  refine ⟨hl.1, hl.2.1, fun j u hj => ?_⟩
  cases hb : Nat.beq i j with
  | true =>
    have hij : i = j := Nat.eq_of_beq_eq_true hb
    have hj : some (Value.double x) = some u := by simpa [zl, hb] using hj
    cases hj
    subst hij
    exact ⟨.double x, rfl, hl.2.2 (i, .double x) List.mem_cons_self⟩
  | false =>
    have hj9 : zl env j = some u := by simpa [zl, hb] using hj
    clear hj
    obtain ⟨v, h1, h2⟩ := h.2.2 j u hj9
    have hne : j ≠ i := fun q => by rw [q] at hb; simp at hb
    have hne1 : j ≠ i + 1 := fun q => by rw [q, hz1] at hj9; cases hj9
    refine ⟨v, h1, hl.2.2 (j, v) (List.mem_cons_of_mem _ (List.mem_filter.mpr ⟨zreal_of hj9 h2, ?_⟩))⟩
    have hcat : ¬ (j + 1 = i ∧ v.category = 2) := by
      rintro ⟨q1, q2⟩
      subst q1
      rw [h1.cat] at q2
      simp only [zlo] at hz
      rw [hj9] at hz
      have := Nat.eq_of_beq_eq_true (show Nat.beq u.category 1 = true from hz)
      omega
    simp only [Bool.and_eq_true, Bool.not_eq_true', beq_eq_false_iff_ne, ne_eq, Bool.and_eq_false_iff]
    refine ⟨hne, hne1, ?_⟩
    by_cases q1 : j + 1 = i
    · exact Or.inr fun q2 => hcat ⟨q1, q2⟩
    · exact Or.inl q1
theorem z_dstore (K : zK y cc nL ret hh d kc ks X) {i : Nat} {x : UInt64} (dd : decode cc pc = .ok (.dstore i, 2)) (hn : i + 1 < nL) (hz : zlo env i = true) (hz1 : zl env (i + 1) = none)
    (kk : zW X Q h k n (pc + 2) ((i, .double x) :: env) st) : zW X Q h k n pc env (.double x :: st) := by
  obtain ⟨p, l, e, R, s, m, args, below, meth, c, D, dA, r0, A, mc, ms⟩ := X
  obtain ⟨hx, hb, hml, hrt, hlk, hnm, hown, hts, hN, hNc, hK, hA0, hfl, hR, hmc, hms, hG, hTb⟩ := K
  intro r H locs ls st' g0 g1 g2 g3 g4 g5
  obtain ⟨_, rfl, g6⟩ := zvs_d g5
  exact lv_dstore hx hb dd (zE.has g4) (by rw [hml]; exact hn) rfl (fun ls' hl => kk r H locs ls' _ g0 g1 g2 g3 (g4.store2 hz hz1 hl) g6)
end ZR4
