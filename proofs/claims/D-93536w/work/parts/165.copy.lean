/-! ===== System.arraycopy between arrays of whole numbers, over names ===== -/
section ZCP
variable {y : MethodName} {cc : ByteArray} {nL : Nat} {ret : Option FieldType} {hh : List (Nat × Nat × Nat × Nat)} {d kc ks : Nat} {X : zX} {Q : zO → zH → Prop} {h : zH} {k n pc : Nat} {env : List (Nat × Value)} {st : List Value}
theorem z_copyi (K : zK y cc nL ret hh d kc ks X) {idx n0 nm N0 N1 : Nat} {f g : Nat → Int32} {sp dp cnt : Int32} (h0 : h n0 = some (.inl (0, N0, .inl f))) (h1 : h nm = some (.inl (0, N1, .inl g))) (h8 : 1000 ≤ nm) (hw : Jvm.Cond.methodLink y.cls idx arraycopyName ∈ lw_all)
    (i1 : ¬ sp < 0) (i2 : ¬ dp < 0) (i3 : ¬ cnt < 0) (i4 : sp.toNatClampNeg + cnt.toNatClampNeg ≤ N0) (i5 : dp.toNatClampNeg + cnt.toNatClampNeg ≤ N1) (hd : 1 ≤ d) (hcat : (st.map fun v => v.category).sum ≤ 8) (dd : decode cc pc = .ok (.invokestatic idx, 3))
    (kk : zW X Q (zup h nm (.inl (0, N1, .inl (va_cpy f g sp.toNatClampNeg dp.toNatClampNeg cnt.toNatClampNeg)))) k n (pc + 3) env st) : zW X Q h k n pc env (.int cnt :: .int dp :: .ref nm :: .int sp :: .ref n0 :: st) := by
  obtain ⟨p, l, e, R, s, m, args, below, meth, c, D, dA, r0, A, mc, ms⟩ := X
  obtain ⟨hx, hb, hml, hrt, hlk, hnm, hown, hts, hN, hNc, hK, hA0, hfl, hR, hmc, hms, hG, hT⟩ := K
  intro r H locs ls st' g0 g1 g2 g3 g4 g5
  obtain ⟨_, rfl, g6⟩ := zvs_i g5
  obtain ⟨_, rfl, g7⟩ := zvs_i g6
  obtain ⟨a, _, gr, rfl, g8⟩ := zvs_r g7
  obtain ⟨_, rfl, g9⟩ := zvs_i g8
  obtain ⟨a0, rest, gr0, rfl, g10⟩ := zvs_r g9
  have hc0 : H[a0]? = some (vp_cell (dA 0) (N0, .inl f)) := g1.at h0 gr0
  have hc1 : H[a]? = some (vp_cell (dA 0) (N1, .inl g)) := g1.at h1 gr
  have nn : ∀ z : Int32, ¬ z < 0 → z.toInt = (z.toNatClampNeg : Int) := by
    intro z hz
    have hz0 : (0 : Int) ≤ z.toInt := by
      have := Int32.not_lt.mp hz
      simpa using Int32.le_iff_toInt_le.mp this
    show z.toInt = ((z.toInt.toNat : Nat) : Int)
    omega
  intro T hT2 X
  obtain ⟨-, k0, hk0, cm0, hkk0⟩ := (hK.2 0 _ rfl).1 N0 (fun j => .int (f j))
  obtain ⟨-, k1, hk1, cm1, hkk1⟩ := (hK.2 0 _ rfl).1 N1 (fun j => .int (g j))
  have hml2 : c.maxLocals = ls.size := g4.1.symm
  have hnw : nativeFrameWords "java/lang/System" "arraycopy" 5 ≤ 40 := by decide +kernel
  have hroom : 2 * 0 + (rest.map fun v => v.category).sum + (nativeFrameWords "java/lang/System" "arraycopy" 5 + 11) ≤ R.locals := by
    rw [hR, g10.cats]
    show 2 * 0 + (st.map fun v => v.category).sum + (nativeFrameWords "java/lang/System" "arraycopy" 5 + 11) ≤ 64 * d
    omega
  obtain ⟨vm', X', step⟩ := X.arraycopy hx hown (hts _ hw) (hts _ q243) (hts _ q242) (hts _ q97) (src := a0) (dst := a) (cs := vp_cell (dA 0) (N0, .inl f)) (cd := vp_cell (dA 0) (N1, .inl g)) (srcPos := sp) (destPos := dp) (n := cnt) (by rw [hT2]; exact hc0) (by rw [hT2]; exact hc1)
    (fun _ h => by cases h) (fun _ h => by cases h) (fun h => by cases h) (fun h => by cases h) hk0 hk1 hkk0 hkk1 (by rfl) i1 i2 i3
    (by rw [nn sp i1, nn cnt i3]; show ¬ _ > ((arrV (dA 0) N0 (fun j => .int (f j))).slots.size : Int); rw [arrV_size]; omega)
    (by rw [nn dp i2, nn cnt i3]; show ¬ _ > ((arrV (dA 0) N1 (fun j => .int (g j))).slots.size : Int); rw [arrV_size]; omega)
    (fun vm₁ _ i hi => by
      have e : (vp_cell (dA 0) (N0, .inl f)).slots.getD (sp.toNatClampNeg + i) .null = .int (f (sp.toNatClampNeg + i)) := by
        show (arrV (dA 0) N0 (fun j => .int (f j))).slots.getD _ _ = _
        rw [Array.getD_eq_getD_getElem?, arrV_read _ _ (by omega)]
        rfl
      refine ⟨?_, ?_⟩
      · rw [e]
        rfl
      · rw [e]
        exact trivial)
    (g := F0 m pc ls (.int cnt :: .int dp :: .ref a :: .int sp :: .ref a0 :: rest)) rfl (by rw [hml2]) (rest := rest) rfl (by rw [hb]; exact dd) (by rw [hR]; exact hd) hroom
  have e1 : copied (vp_cell (dA 0) (N0, .inl f)) (vp_cell (dA 0) (N1, .inl g)) sp dp cnt = vp_cell (dA 0) (N1, .inl (va_cpy f g sp.toNatClampNeg dp.toNatClampNeg cnt.toNatClampNeg)) := va_copied (fun z => .int z) (dA 0) (dA 0) f g i4
  rw [e1] at X' step
  have hl : a < H.size := (Array.getElem?_eq_some_iff.mp hc1).1
  have hheap : ((T.setVm vm').setCell a (vp_cell (dA 0) (N1, .inl (va_cpy f g sp.toNatClampNeg dp.toNatClampNeg cnt.toNatClampNeg)))).heap = H.setIfInBounds a (vp_cell (dA 0) (N1, .inl (va_cpy f g sp.toNatClampNeg dp.toNatClampNeg cnt.toNatClampNeg))) := by rw [← hT2]; rfl
  have oq : ∀ q : Nat, q ≠ a → (H.setIfInBounds a (vp_cell (dA 0) (N1, .inl (va_cpy f g sp.toNatClampNeg dp.toNatClampNeg cnt.toNatClampNeg))))[q]? = H[q]? := fun q hq => by simp [Array.getElem?_setIfInBounds, Ne.symm hq]
  have hz : (H.setIfInBounds a (vp_cell (dA 0) (N1, .inl (va_cpy f g sp.toNatClampNeg dp.toNatClampNeg cnt.toNatClampNeg)))).size = H.size := by simp
  have hAa : A a := g2.1 nm a h8 gr
  obtain ⟨t, a1, b1⟩ := kk r _ _ ls _ g0 (g1.put h1 h8 gr (show (H.setIfInBounds a _)[a]? = some _ by simp [Array.getElem?_setIfInBounds, hl]) hz oq) g2 ⟨by simp; exact g3.1, fun q z1 z2 => by
      rw [oq q (fun e => z2 (by rw [e]; exact hAa))]
      exact g3.2.1 q z1 z2, fun q hq => by
      rcases List.mem_append.mp hq with h | h
      · exact g3.2.2 q h
      · obtain ⟨z, -, hz⟩ := List.mem_map.mp h
        rw [← hz]
        exact hAa⟩ g4 g10 _ hheap X'
  exact ⟨t, step t a1, b1⟩
end ZCP
