/-! ===== what an array of Object takes (printed by tools/genrows5.py) ===== -/
section ZR5
variable {y : MethodName} {cc : ByteArray} {nL : Nat} {ret : Option FieldType} {hh : List (Nat × Nat × Nat × Nat)} {d kc ks : Nat} {X : zX} {Q : zO → zH → Prop} {h h1 : zH} {k n pc : Nat} {env : List (Nat × Value)} {st : List Value}
theorem zst_0 : ("java/util/ArrayList", "DEFAULTCAPACITY_EMPTY_ELEMENTDATA", "[Ljava/lang/Object;", Value.ref 1) ∈ zst := List.mem_of_getElem? (i := 0) rfl
theorem zst_1 : ("java/lang/Throwable", "UNASSIGNED_STACK", "[Ljava/lang/StackTraceElement;", Value.ref 3) ∈ zst := List.mem_of_getElem? (i := 1) rfl
theorem zst_2 : ("java/lang/Throwable", "SUPPRESSED_SENTINEL", "Ljava/util/List;", Value.ref 4) ∈ zst := List.mem_of_getElem? (i := 2) rfl
theorem zst_3 : ("jdk/internal/util/Preconditions", "SIOOBE_FORMATTER", "Ljava/util/function/BiFunction;", Value.ref 5) ∈ zst := List.mem_of_getElem? (i := 3) rfl
theorem zst_4 : ("java/lang/Integer$IntegerCache", "cache", "[Ljava/lang/Integer;", Value.ref 6) ∈ zst := List.mem_of_getElem? (i := 4) rfl
theorem zst_5 : ("java/lang/Integer$IntegerCache", "high", "I", Value.int 127) ∈ zst := List.mem_of_getElem? (i := 5) rfl
theorem zst_6 : ("java/lang/String", "COMPACT_STRINGS", "Z", Value.int 1) ∈ zst := List.mem_of_getElem? (i := 6) rfl
theorem zst_7 : ("java/lang/StringUTF16", "$assertionsDisabled", "Z", Value.int 1) ∈ zst := List.mem_of_getElem? (i := 7) rfl
theorem zst_8 : ("java/lang/StringUTF16", "HI_BYTE_SHIFT", "I", Value.int 0) ∈ zst := List.mem_of_getElem? (i := 8) rfl
theorem zst_9 : ("java/lang/StringUTF16", "LO_BYTE_SHIFT", "I", Value.int 8) ∈ zst := List.mem_of_getElem? (i := 9) rfl
/-- an object, or an array of ints -/
def zOb (h : zH) (q : Nat) : Prop := zObj h q ∨ ∃ (M : Nat) (f : Nat → Int32), h q = some (.inl (0, M, .inl f))
theorem zOb.cell {D : va_G} {dA : Nat → ClassId} {r : zR} {s : State} {H : Heap} {q a : Nat} (hK : va_K D zcl (zty dA) s) (g1 : zS D dA r h H) (hq : zOb h q) (ha : r q = some a) : ∃ (cell : Cell) (C : String), H[a]? = some cell ∧ cell.vm.isStatics = false ∧ s.vm.findClass C = some cell.cls ∧ Jvm.Cond.castable C "java/lang/Object" ∈ lw_tbl := by
  rcases hq with ⟨ci, fs, C, o1, o2, o3⟩ | ⟨M, f, o1⟩
  · obtain ⟨cell, w1, w2, w3⟩ := zcell hK g1 o1 ha o2
    exact ⟨cell, C, w1, w2, w3, o3⟩
  · have w1 : H[a]? = some (vp_cell (dA 0) (M, .inl f)) := g1.at o1 ha
    exact ⟨_, "[I", w1, rfl, (hK.2 0 _ rfl).2, q2320⟩
theorem z_copyq1 (K : zK y cc nL ret hh d kc ks X) {idx n0 nm N0 N1 : Nat} {f g : Nat → Option Nat} {sp dp cnt : Int32} (hel : ∀ i : Nat, i < cnt.toNatClampNeg → ∀ q : Nat, f (sp.toNatClampNeg + i) = some q → zOb h q) (h0 : h n0 = some (.inl (6, N0, .inr (.inr (.inr (.inr f)))))) (h1 : h nm = some (.inl (6, N1, .inr (.inr (.inr (.inr g)))))) (h8 : 1000 ≤ nm) (hs0 : N0 ≠ 0 ∨ 1000 ≤ n0) (hw : Jvm.Cond.methodLink y.cls idx arraycopyName ∈ lw_all)
    (i1 : ¬ sp < 0) (i2 : ¬ dp < 0) (i3 : ¬ cnt < 0) (i4 : sp.toNatClampNeg + cnt.toNatClampNeg ≤ N0) (i5 : dp.toNatClampNeg + cnt.toNatClampNeg ≤ N1) (hd : 1 ≤ d) (hcat : (st.map fun v => v.category).sum ≤ 8) (dd : decode cc pc = .ok (.invokestatic idx, 3))
    (kk : zW X Q (zup h nm (.inl (6, N1, .inr (.inr (.inr (.inr (va_cpy f g sp.toNatClampNeg dp.toNatClampNeg cnt.toNatClampNeg))))))) k n (pc + 3) env st) : zW X Q h k n pc env (.int cnt :: .int dp :: .ref nm :: .int sp :: .ref n0 :: st) := by
  obtain ⟨p, l, e, R, s, m, args, below, meth, c, D, dA, r0, A, mc, ms⟩ := X
  obtain ⟨hx, hb, hml, hrt, hlk, hnm, hown, hts, hN, hNc, hK, hA0, hfl, hR, hmc, hms, hG, hT⟩ := K
  intro r H locs ls st' g0 g1 g2 g3 g4 g5
  obtain ⟨_, rfl, g6⟩ := zvs_i g5
  obtain ⟨_, rfl, g7⟩ := zvs_i g6
  obtain ⟨a, _, gr, rfl, g8⟩ := zvs_r g7
  obtain ⟨_, rfl, g9⟩ := zvs_i g8
  obtain ⟨a0, rest, gr0, rfl, g10⟩ := zvs_r g9
  obtain ⟨f', hf', hc0⟩ := g1.at h0 gr0 (hs0.imp (fun q => show (N0 == 0) = false from beq_false_of_ne q) id)
  obtain ⟨g', hg', hc1⟩ := g1.at h1 gr
  have hc0 : H[a0]? = some (vp_cell (dA 6) (N0, .inr (.inr (.inr (.inr f'))))) := hc0
  have hc1 : H[a]? = some (vp_cell (dA 6) (N1, .inr (.inr (.inr (.inr g'))))) := hc1
  have nn : ∀ z : Int32, ¬ z < 0 → z.toInt = (z.toNatClampNeg : Int) := by
    intro z hz
    have hz0 : (0 : Int) ≤ z.toInt := by
      have := Int32.not_lt.mp hz
      simpa using Int32.le_iff_toInt_le.mp this
    show z.toInt = ((z.toInt.toNat : Nat) : Int)
    omega
  intro T hT2 X
  obtain ⟨-, k0, hk0, cm0, hkk0⟩ := (hK.2 6 _ rfl).1 N0 (fun j => va_rf (f' j))
  obtain ⟨-, k1, hk1, cm1, hkk1⟩ := (hK.2 6 _ rfl).1 N1 (fun j => va_rf (g' j))
  have hml2 : c.maxLocals = ls.size := g4.1.symm
  have hnw : nativeFrameWords "java/lang/System" "arraycopy" 5 ≤ 40 := by decide +kernel
  have hroom : 2 * 0 + (rest.map fun v => v.category).sum + (nativeFrameWords "java/lang/System" "arraycopy" 5 + 11) ≤ R.locals := by
    rw [hR, g10.cats]
    show 2 * 0 + (st.map fun v => v.category).sum + (nativeFrameWords "java/lang/System" "arraycopy" 5 + 11) ≤ 64 * d
    omega
  obtain ⟨vm', X', step⟩ := X.arraycopy hx hown (hts _ hw) (hts _ q243) (hts _ q242) (hts _ q97) (src := a0) (dst := a) (cs := vp_cell (dA 6) (N0, .inr (.inr (.inr (.inr f'))))) (cd := vp_cell (dA 6) (N1, .inr (.inr (.inr (.inr g'))))) (srcPos := sp) (destPos := dp) (n := cnt) (by rw [hT2]; exact hc0) (by rw [hT2]; exact hc1)
    (fun _ h => by cases h) (fun _ h => by cases h) (fun h => by cases h) (fun h => by cases h) hk0 hk1 hkk0 hkk1 (by rfl) i1 i2 i3
    (by rw [nn sp i1, nn cnt i3]; show ¬ _ > ((arrV (dA 6) N0 (fun j => va_rf (f' j))).slots.size : Int); rw [arrV_size]; omega)
    (by rw [nn dp i2, nn cnt i3]; show ¬ _ > ((arrV (dA 6) N1 (fun j => va_rf (g' j))).slots.size : Int); rw [arrV_size]; omega)
    (fun vm₁ hal i hi => by
      have e : (vp_cell (dA 6) (N0, .inr (.inr (.inr (.inr f'))))).slots.getD (sp.toNatClampNeg + i) .null = va_rf (f' (sp.toNatClampNeg + i)) := by
        show (arrV (dA 6) N0 (fun j => va_rf (f' j))).slots.getD _ _ = _
        rw [Array.getD_eq_getD_getElem?, arrV_read _ _ (by omega)]
        rfl
      rw [e]
      have hz := hf' (sp.toNatClampNeg + i)
      cases hy : f (sp.toNatClampNeg + i) with
      | none =>
        rw [hy] at hz
        have hz : f' (sp.toNatClampNeg + i) = none := hz
        rw [hz]
        exact ⟨rfl, trivial⟩
      | some q =>
        rw [hy] at hz
        obtain ⟨aq, z1, z2⟩ := hz
        rw [z2]
        obtain ⟨cellV, C, w1, w2, w3, o3⟩ := zOb.cell hK g1 (hel i hi q hy) z1
        obtain ⟨kA, comp, r1, r2, r3, -⟩ := (hK.2 6 _ rfl).2
        cases hk1.symm.trans r1
        cases hkk1.symm.trans r2
        obtain ⟨kE, hkE, -⟩ := Vm.findClass_spec r3
        obtain ⟨kC, hkC, -⟩ := Vm.findClass_spec w3
        obtain ⟨kC', hkC', -⟩ := hal.2.2 _ _ hkC
        obtain ⟨kE', hkE', -⟩ := hal.2.2 _ _ hkE
        refine ⟨rfl, cellV, (show T.heap[aq]? = some cellV by rw [hT2]; exact w1), (fun q h => by rw [h] at w2; cases w2), ⟨kC', hkC'⟩, ?_, ?_⟩
        · exact ⟨kE', hkE'⟩
        · show vm₁.assignable _ _ = true
          rw [hal.assignable]
          exact vb_asgC (hN _ o3 rfl) _ _ r3 w3)
    (g := F0 m pc ls (.int cnt :: .int dp :: .ref a :: .int sp :: .ref a0 :: rest)) rfl (by rw [hml2]) (rest := rest) rfl (by rw [hb]; exact dd) (by rw [hR]; exact hd) hroom
  have e1 : copied (vp_cell (dA 6) (N0, .inr (.inr (.inr (.inr f'))))) (vp_cell (dA 6) (N1, .inr (.inr (.inr (.inr g'))))) sp dp cnt = vp_cell (dA 6) (N1, .inr (.inr (.inr (.inr (va_cpy f' g' sp.toNatClampNeg dp.toNatClampNeg cnt.toNatClampNeg))))) := by
    rw [vp_cell_q, vp_cell_q, vp_cell_q]
    exact va_copied (fun z => va_rf z) (dA 6) (dA 6) f' g' i4
  rw [e1] at X' step
  have hl : a < H.size := (Array.getElem?_eq_some_iff.mp hc1).1
  have hheap : ((T.setVm vm').setCell a (vp_cell (dA 6) (N1, .inr (.inr (.inr (.inr (va_cpy f' g' sp.toNatClampNeg dp.toNatClampNeg cnt.toNatClampNeg))))))).heap = H.setIfInBounds a (vp_cell (dA 6) (N1, .inr (.inr (.inr (.inr (va_cpy f' g' sp.toNatClampNeg dp.toNatClampNeg cnt.toNatClampNeg)))))) := by rw [← hT2]; rfl
  have oq : ∀ q : Nat, q ≠ a → (H.setIfInBounds a (vp_cell (dA 6) (N1, .inr (.inr (.inr (.inr (va_cpy f' g' sp.toNatClampNeg dp.toNatClampNeg cnt.toNatClampNeg)))))))[q]? = H[q]? := fun q hq => by simp [Array.getElem?_setIfInBounds, Ne.symm hq]
  have hz : (H.setIfInBounds a (vp_cell (dA 6) (N1, .inr (.inr (.inr (.inr (va_cpy f' g' sp.toNatClampNeg dp.toNatClampNeg cnt.toNatClampNeg))))))).size = H.size := by simp
  have hcp : zrf r (va_cpy f g sp.toNatClampNeg dp.toNatClampNeg cnt.toNatClampNeg) (va_cpy f' g' sp.toNatClampNeg dp.toNatClampNeg cnt.toNatClampNeg) := fun j => by
    by_cases hj : dp.toNatClampNeg ≤ j ∧ j < dp.toNatClampNeg + cnt.toNatClampNeg
    · rw [pk_cpy_in hj.1 hj.2, pk_cpy_in hj.1 hj.2]
      exact hf' _
    · rw [pk_cpy_out (by omega), pk_cpy_out (by omega)]
      exact hg' j
  have hAa : A a := g2.1 nm a h8 gr
  obtain ⟨t, a1, b1⟩ := kk r _ _ ls _ g0 (g1.put h1 h8 gr ⟨_, hcp, show (H.setIfInBounds a _)[a]? = some _ by simp [Array.getElem?_setIfInBounds, hl]⟩ hz oq) g2 ⟨by simp; exact g3.1, fun q z1 z2 => by
      rw [oq q (fun e => z2 (by rw [e]; exact hAa))]
      exact g3.2.1 q z1 z2, fun q hq => by
      rcases List.mem_append.mp hq with h | h
      · exact g3.2.2 q h
      · obtain ⟨z, -, hz⟩ := List.mem_map.mp h
        rw [← hz]
        exact hAa⟩ g4 g10 _ hheap X'
  exact ⟨t, step t a1, b1⟩


theorem z_copy0 (K : zK y cc nL ret hh d kc ks X) {idx n0 nm N1 : Nat} {f g : Nat → Option Nat} {sp dp cnt : Int32} (h0 : h n0 = some (.inl (6, 0, .inr (.inr (.inr (.inr f)))))) (h1 : h nm = some (.inl (6, N1, .inr (.inr (.inr (.inr g)))))) (h8 : 1000 ≤ nm) (hw : Jvm.Cond.methodLink y.cls idx arraycopyName ∈ lw_all)
    (i1 : ¬ sp < 0) (i2 : ¬ dp < 0) (i3 : ¬ cnt < 0) (i4 : sp.toNatClampNeg + cnt.toNatClampNeg ≤ 0) (i5 : dp.toNatClampNeg + cnt.toNatClampNeg ≤ N1) (hd : 1 ≤ d) (hcat : (st.map fun v => v.category).sum ≤ 8) (dd : decode cc pc = .ok (.invokestatic idx, 3))
    (kk : zW X Q h k n (pc + 3) env st) : zW X Q h k n pc env (.int cnt :: .int dp :: .ref nm :: .int sp :: .ref n0 :: st) := by
  obtain ⟨p, l, e, R, s, m, args, below, meth, c, D, dA, r0, A, mc, ms⟩ := X
  obtain ⟨hx, hb, hml, hrt, hlk, hnm, hown, hts, hN, hNc, hK, hA0, hfl, hR, hmc, hms, hG, hT⟩ := K
  intro r H locs ls st' g0 g1 g2 g3 g4 g5
  obtain ⟨_, rfl, g6⟩ := zvs_i g5
  obtain ⟨_, rfl, g7⟩ := zvs_i g6
  obtain ⟨a, _, gr, rfl, g8⟩ := zvs_r g7
  obtain ⟨_, rfl, g9⟩ := zvs_i g8
  obtain ⟨a0, rest, gr0, rfl, g10⟩ := zvs_r g9
  obtain ⟨cs, hc0, v0, v1, v2⟩ : ∃ cs : Cell, H[a0]? = some cs ∧ cs.vm.isStatics = false ∧ cs.vm ≠ .unknown ∧ cs.cls = dA 6 := by
    rcases g1.2.2.2 n0 _ a0 h0 gr0 with ⟨f', -, hat⟩ | ⟨-, cell, z1, z2, z3, ⟨v, z4, -⟩ | ⟨ty', f', z4, z5, z6⟩⟩
    · have hat : H[a0]? = some (vp_cell (dA 6) (0, .inr (.inr (.inr (.inr f'))))) := hat
      exact ⟨_, hat, rfl, fun h => (by cases h), rfl⟩
    · cases z4
    · cases z4; exact ⟨cell, z1, z2, z3, z5⟩
  obtain ⟨g', hg', hc1⟩ := g1.at h1 gr
  have hc1 : H[a]? = some (vp_cell (dA 6) (N1, .inr (.inr (.inr (.inr g'))))) := hc1
  have nn : ∀ z : Int32, ¬ z < 0 → z.toInt = (z.toNatClampNeg : Int) := by
    intro z hz
    have hz0 : (0 : Int) ≤ z.toInt := by
      have := Int32.not_lt.mp hz
      simpa using Int32.le_iff_toInt_le.mp this
    show z.toInt = ((z.toInt.toNat : Nat) : Int)
    omega
  intro T hT2 X
  obtain ⟨-, k0, hk0, cm0, hkk0⟩ := (hK.2 6 _ rfl).1 0 (fun _ => .null)
  obtain ⟨-, k1, hk1, cm1, hkk1⟩ := (hK.2 6 _ rfl).1 N1 (fun j => va_rf (g' j))
  have hml2 : c.maxLocals = ls.size := g4.1.symm
  have hnw : nativeFrameWords "java/lang/System" "arraycopy" 5 ≤ 40 := by decide +kernel
  have hroom : 2 * 0 + (rest.map fun v => v.category).sum + (nativeFrameWords "java/lang/System" "arraycopy" 5 + 11) ≤ R.locals := by
    rw [hR, g10.cats]
    show 2 * 0 + (st.map fun v => v.category).sum + (nativeFrameWords "java/lang/System" "arraycopy" 5 + 11) ≤ 64 * d
    omega
  obtain ⟨vm', X', step⟩ := X.arraycopy hx hown (hts _ hw) (hts _ q243) (hts _ q242) (hts _ q97) (src := a0) (dst := a) (cs := cs) (cd := vp_cell (dA 6) (N1, .inr (.inr (.inr (.inr g'))))) (srcPos := sp) (destPos := dp) (n := cnt) (by rw [hT2]; exact hc0) (by rw [hT2]; exact hc1)
    (fun _ h => by rw [h] at v0; cases v0) (fun _ h => by cases h) v1 (fun h => by cases h) (by rw [v2]; exact hk0) hk1 hkk0 hkk1 (by rfl) i1 i2 i3
    (by rw [nn sp i1, nn cnt i3]; omega)
    (by rw [nn dp i2, nn cnt i3]; show ¬ _ > ((arrV (dA 6) N1 (fun j => va_rf (g' j))).slots.size : Int); rw [arrV_size]; omega)
    (fun vm₁ hal i hi => absurd hi (by omega))
    (g := F0 m pc ls (.int cnt :: .int dp :: .ref a :: .int sp :: .ref a0 :: rest)) rfl (by rw [hml2]) (rest := rest) rfl (by rw [hb]; exact dd) (by rw [hR]; exact hd) hroom
  have e1 : copied cs (vp_cell (dA 6) (N1, .inr (.inr (.inr (.inr g'))))) sp dp cnt = vp_cell (dA 6) (N1, .inr (.inr (.inr (.inr g')))) := by
    unfold copied Cell.stretch
    rw [show cnt.toNatClampNeg = 0 by omega]
    rfl
  rw [e1] at X' step
  have hl : a < H.size := (Array.getElem?_eq_some_iff.mp hc1).1
  have hheap : ((T.setVm vm').setCell a (vp_cell (dA 6) (N1, .inr (.inr (.inr (.inr g')))))).heap = H := by
    rw [show ((T.setVm vm').setCell a (vp_cell (dA 6) (N1, .inr (.inr (.inr (.inr g')))))).heap = H.setIfInBounds a (vp_cell (dA 6) (N1, .inr (.inr (.inr (.inr g'))))) by rw [← hT2]; rfl]
    apply Array.ext_getElem?
    intro q
    by_cases hq : q = a
    · subst hq; rw [hc1]; simp [Array.getElem?_setIfInBounds, hl]
    · simp [Array.getElem?_setIfInBounds, Ne.symm hq]
  have hAa : A a := g2.1 nm a h8 gr
  obtain ⟨t, a1, b1⟩ := kk r _ _ ls _ g0 g1 g2 ⟨g3.1, g3.2.1, fun q hq => by
      rcases List.mem_append.mp hq with h | h
      · exact g3.2.2 q h
      · obtain ⟨z, -, hz⟩ := List.mem_map.mp h
        rw [← hz]
        exact hAa⟩ g4 g10 _ hheap X'
  exact ⟨t, step t a1, b1⟩
theorem z_copyq (K : zK y cc nL ret hh d kc ks X) {idx n0 nm N0 N1 : Nat} {f g : Nat → Option Nat} {sp dp cnt : Int32} (hel : ∀ i : Nat, i < cnt.toNatClampNeg → ∀ q : Nat, f (sp.toNatClampNeg + i) = some q → zOb h q) (h0 : h n0 = some (.inl (6, N0, .inr (.inr (.inr (.inr f)))))) (h1 : h nm = some (.inl (6, N1, .inr (.inr (.inr (.inr g)))))) (h8 : 1000 ≤ nm) (hw : Jvm.Cond.methodLink y.cls idx arraycopyName ∈ lw_all)
    (i1 : ¬ sp < 0) (i2 : ¬ dp < 0) (i3 : ¬ cnt < 0) (i4 : sp.toNatClampNeg + cnt.toNatClampNeg ≤ N0) (i5 : dp.toNatClampNeg + cnt.toNatClampNeg ≤ N1) (hd : 1 ≤ d) (hcat : (st.map fun v => v.category).sum ≤ 8) (dd : decode cc pc = .ok (.invokestatic idx, 3))
    (kk : zW X Q (zup h nm (.inl (6, N1, .inr (.inr (.inr (.inr (va_cpy f g sp.toNatClampNeg dp.toNatClampNeg cnt.toNatClampNeg))))))) k n (pc + 3) env st) : zW X Q h k n pc env (.int cnt :: .int dp :: .ref nm :: .int sp :: .ref n0 :: st) := by
  by_cases z : N0 = 0
  · subst z
    have c0 : cnt.toNatClampNeg = 0 := by omega
    refine z_copy0 K h0 h1 h8 hw i1 i2 i3 i4 i5 hd hcat dd ?_
    have e : zup h nm (.inl (6, N1, .inr (.inr (.inr (.inr (va_cpy f g sp.toNatClampNeg dp.toNatClampNeg cnt.toNatClampNeg)))))) = h := by
      rw [c0, show va_cpy f g sp.toNatClampNeg dp.toNatClampNeg 0 = g from funext fun j => pk_cpy_out (by omega)]
      funext m
      by_cases e : m = nm
      · subst e; rw [zup_at, h1]
      · rw [zup_ne e]
    rw [e] at kk
    exact kk
  · exact z_copyq1 K hel h0 h1 h8 (Or.inl z) hw i1 i2 i3 i4 i5 hd hcat dd kk
theorem z_aastq (K : zK y cc nL ret hh d kc ks X) {nm N x : Nat} {f : Nat → Option Nat} {a : Int} (hn : h nm = some (.inl (6, N, .inr (.inr (.inr (.inr f)))))) (h8 : 1000 ≤ nm) (hx9 : zOb h x) (h0 : 0 ≤ a) (h1 : a < (N : Int)) (hN9 : N ≤ 100000) (dd : decode cc pc = .ok (.aastore, 1))
    (kk : zW X Q (zup h nm (.inl (6, N, .inr (.inr (.inr (.inr (va_up f a.toNat (some x)))))))) k n (pc + 1) env st) : zW X Q h k n pc env (.ref x :: .int (iI a) :: .ref nm :: st) := by
  rcases hx9 with ⟨ci, fs, C, o1, o2, o3⟩ | ⟨M, f9, o1⟩
  · exact z_aast K hn h8 o1 o2 o3 h0 h1 hN9 dd kk
  · exact z_aastA K hn h8 o1 h0 h1 hN9 dd kk
theorem zOb.up {q nm : Nat} {c : zC} (h9 : zOb h q) (e : q ≠ nm) : zOb (zup h nm c) q := by
  rcases h9 with ⟨ci, fs, C, o1, o2, o3⟩ | ⟨M, f, o1⟩
  · exact Or.inl ⟨ci, fs, C, by rw [zup_ne e]; exact o1, o2, o3⟩
  · exact Or.inr ⟨M, f, by rw [zup_ne e]; exact o1⟩
/-- a list object stays one -/
theorem zOb.upO {q nm ci : Nat} {fs fs' : List Value} (h9 : zOb h q) (hn : h nm = some (.inr (ci, fs'))) : zOb (zup h nm (.inr (ci, fs))) q := by
  by_cases e : q = nm
  · subst e
    rcases h9 with ⟨ci', fs'', C, o1, o2, o3⟩ | ⟨M, f, o1⟩
    · rw [hn] at o1
      cases o1
      exact Or.inl ⟨ci, fs, C, zup_at _ _ _, o2, o3⟩
    · rw [hn] at o1; cases o1
  · exact h9.up e
theorem zup_zup {nm : Nat} {c c' : zC} : zup (zup h nm c) nm c' = zup h nm c' := by
  funext m
  by_cases e : m = nm
  · subst e; rw [zup_at, zup_at]
  · rw [zup_ne e, zup_ne e, zup_ne e]
theorem zup_comm {nm n2 : Nat} {c c' : zC} (e : nm ≠ n2) : zup (zup h nm c) n2 c' = zup (zup h n2 c') nm c := by
  funext m
  by_cases e1 : m = nm
  · subst e1; rw [zup_ne e, zup_at, zup_at]
  · by_cases e2 : m = n2
    · subst e2; rw [zup_at, zup_ne e1, zup_at]
    · rw [zup_ne e2, zup_ne e1, zup_ne e1, zup_ne e2]
theorem zup_self {nm : Nat} {c : zC} (e : h nm = some c) : zup h nm c = h := by
  funext m
  by_cases e1 : m = nm
  · subst e1; rw [zup_at, e]
  · rw [zup_ne e1]
theorem j_ldc (K : zK y cc nL ret hh d kc ks X) {idx : Nat} {v : Int32} (a : Int) (hw : Jvm.Cond.constant y.cls idx v ∈ lw_all) (hv : v = iI a) (dd : decode cc pc = .ok (.ldc idx, 2)) (kk : zW X Q h k n (pc + 2) env (.int (iI a) :: st)) : zW X Q h k n pc env st := z_ldc K hw dd (by rw [hv]; exact kk)
theorem j_ldcw (K : zK y cc nL ret hh d kc ks X) {idx : Nat} {v : Int32} (a : Int) (hw : Jvm.Cond.constant y.cls idx v ∈ lw_all) (hv : v = iI a) (dd : decode cc pc = .ok (.ldc_w idx, 3)) (kk : zW X Q h k n (pc + 3) env (.int (iI a) :: st)) : zW X Q h k n pc env st := z_ldcw K hw dd (by rw [hv]; exact kk)
theorem j_getsI (K : zK y cc nL ret hh d kc ks X) {idx : Nat} {C f g : String} {x : Int32} (a : Int) (hq : (C, f, g, Value.int x) ∈ zst) (hv : x = iI a) (hl : Jvm.Cond.fieldLink y.cls idx C f g ∈ lw_all) (dd : decode cc pc = .ok (.getstatic idx, 3)) (kk : zW X Q h k n (pc + 3) env (.int (iI a) :: st)) : zW X Q h k n pc env st := z_getsI K hq hl dd (by rw [hv]; exact kk)
end ZR5
