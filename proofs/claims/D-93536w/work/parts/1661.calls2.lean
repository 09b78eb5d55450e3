/-! ===== statics, casts, compares of references, further calls, throws, handlers (printed by tools/gencalls.py) ===== -/
section ZC3
variable {y : MethodName} {cc : ByteArray} {nL : Nat} {ret : Option FieldType} {hh : List (Nat × Nat × Nat × Nat)} {d kc ks : Nat} {X : zX} {Q : zO → zH → Prop} {h : zH} {k n pc : Nat} {env : List (Nat × Value)} {st : List Value}
theorem z_getsI (K : zK y cc nL ret hh d kc ks X) {idx : Nat} {C f g : String} {x : Int32} (hq : (C, f, g, Value.int x) ∈ zst) (hl : Jvm.Cond.fieldLink y.cls idx C f g ∈ lw_all) (dd : decode cc pc = .ok (.getstatic idx, 3))
    (kk : zW X Q h k n (pc + 3) env (.int x :: st)) : zW X Q h k n pc env st := by
  obtain ⟨p, l, e, R, s, m, args, below, meth, c, D, dA, r0, A, mc, ms⟩ := X
  obtain ⟨hx, hb, hml, hrt, hlk, hnm, hown, hts, hN, hNc, hK, hA0, hfl, hR, hmc, hms, hG, hTb⟩ := K
  intro r H locs ls st' g0 g1 g2 g3 g4 g5
  obtain ⟨w, hZ, hw⟩ := hG.1 _ hq
  have hw : w = .int x := hw
  subst hw
  exact va_gets hx hb hZ g3 hown (hts _ hl) (fun _ h => h) dd (kk r H locs ls _ g0 g1 g2 g3 g4 g5.i)
theorem z_gets (K : zK y cc nL ret hh d kc ks X) {idx nm : Nat} {C f g : String} {c0 : zC} (hq : (C, f, g, Value.ref nm) ∈ zst) (hl : Jvm.Cond.fieldLink y.cls idx C f g ∈ lw_all) (hn : h nm = some c0) (dd : decode cc pc = .ok (.getstatic idx, 3))
    (kk : zW X Q h k n (pc + 3) env (.ref nm :: st)) : zW X Q h k n pc env st := by
  obtain ⟨p, l, e, R, s, m, args, below, meth, c, D, dA, r0, A, mc, ms⟩ := X
  obtain ⟨hx, hb, hml, hrt, hlk, hnm, hown, hts, hN, hNc, hK, hA0, hfl, hR, hmc, hms, hG, hTb⟩ := K
  intro r H locs ls st' g0 g1 g2 g3 g4 g5
  obtain ⟨w, hZ, hw, -⟩ := hG.1 _ hq
  obtain ⟨a, ha⟩ : ∃ a, r nm = some a := by
    cases e9 : r nm with
    | some a => exact ⟨a, rfl⟩
    | none => rw [(g1.1 nm).mpr e9] at hn; cases hn
  have hw : w = .ref a := hw a (by rw [← g0.eq (Nat.lt_trans (zst_lt _ hq nm rfl) (by decide))]; exact ha)
  subst hw
  exact va_gets hx hb hZ g3 hown (hts _ hl) (fun _ h => h) dd (kk r H locs ls _ g0 g1 g2 g3 g4 (g5.r ha))
theorem z_getsN (K : zK y cc nL ret hh d kc ks X) {idx nm : Nat} {C f g : String} {c0 : zC} (hq : (C, f, g, Value.ref nm) ∈ zst) (hl : Jvm.Cond.fieldLink y.cls idx C f g ∈ lw_all) (hn : h (nm + 20) = some c0) (dd : decode cc pc = .ok (.getstatic idx, 3))
    (kk : zW X Q h k n (pc + 3) env (.null :: st)) : zW X Q h k n pc env st := by
  obtain ⟨p, l, e, R, s, m, args, below, meth, c, D, dA, r0, A, mc, ms⟩ := X
  obtain ⟨hx, hb, hml, hrt, hlk, hnm, hown, hts, hN, hNc, hK, hA0, hfl, hR, hmc, hms, hG, hTb⟩ := K
  intro r H locs ls st' g0 g1 g2 g3 g4 g5
  obtain ⟨w, hZ, -, hw⟩ := hG.1 _ hq
  have hw : w = .null := hw (by
    rw [← g0.eq (Nat.lt_of_lt_of_le (Nat.add_lt_add_right (zst_lt _ hq nm rfl) 20) (by decide))]
    intro e9
    rw [(g1.1 _).mpr e9] at hn
    cases hn)
  subst hw
  exact va_gets hx hb hZ g3 hown (hts _ hl) (fun _ h => h) dd (kk r H locs ls _ g0 g1 g2 g3 g4 g5.n)
theorem zcell {D : va_G} {dA : Nat → ClassId} {r : zR} {s : State} {H : Heap} {nm a ci : Nat} {fs : List Value} {C : String} (hK : va_K D zcl (zty dA) s) (g1 : zS D dA r h H) (hn : h nm = some (.inr (ci, fs))) (ha : r nm = some a) (hci : (zcl[ci]?).map (fun q => q.1) = some C) : ∃ cell : Cell, H[a]? = some cell ∧ cell.vm.isStatics = false ∧ s.vm.findClass C = some cell.cls := by
  obtain ⟨q, hq⟩ : ∃ q, zcl[ci]? = some q := by
    cases hz : zcl[ci]? with
    | none => rw [hz] at hci; cases hci
    | some q => exact ⟨q, rfl⟩
  have hC : q.1 = C := by rw [hq] at hci; exact Option.some.inj hci
  obtain ⟨fs', cell, -, q1, q2, q3, -, -⟩ := g1.obj hn ha hq
  exact ⟨cell, q1, q3, by rw [q2, ← hC]; exact (hK.1 ci q hq).2.1⟩
/-- checkcast of an object: to its own class -/
theorem z_castS (K : zK y cc nL ret hh d kc ks X) {idx nm ci : Nat} {fs : List Value} {C : String} (hn : h nm = some (.inr (ci, fs))) (hci : (zcl[ci]?).map (fun q => q.1) = some C) (hl : Jvm.Cond.classLink y.cls idx C ∈ lw_all) (dd : decode cc pc = .ok (.checkcast idx, 3))
    (kk : zW X Q h k n (pc + 3) env (.ref nm :: st)) : zW X Q h k n pc env (.ref nm :: st) := by
  obtain ⟨p, l, e, R, s, m, args, below, meth, c, D, dA, r0, A, mc, ms⟩ := X
  obtain ⟨hx, hb, hml, hrt, hlk, hnm, hown, hts, hN, hNc, hK, hA0, hfl, hR, hmc, hms, hG, hTb⟩ := K
  intro r H locs ls st' g0 g1 g2 g3 g4 g5
  obtain ⟨a, _, gr, rfl, g6⟩ := zvs_r g5
  obtain ⟨cell, q1, q2, q3⟩ := zcell hK g1 hn gr hci
  obtain ⟨q, hq⟩ : ∃ q, zcl[ci]? = some q := by
    cases hz : zcl[ci]? with
    | none => rw [hz] at hci; cases hci
    | some q => exact ⟨q, rfl⟩
  have hC : q.1 = C := by rw [hq] at hci; exact Option.some.inj hci
  have hca := (hK.1 ci q hq).2
  rw [hC] at hca
  exact va_castS hx hb hown (hts _ hl) hca ⟨cell, q1, q2, q3⟩ dd (kk r H locs ls _ g0 g1 g2 g3 g4 (g6.r gr))
theorem z_castY (K : zK y cc nL ret hh d kc ks X) {idx nm ci : Nat} {fs : List Value} {C E : String} (hn : h nm = some (.inr (ci, fs))) (hci : (zcl[ci]?).map (fun q => q.1) = some C) (hl : Jvm.Cond.classLink y.cls idx E ∈ lw_all) (hc : Jvm.Cond.castable C E ∈ lw_tbl) (dd : decode cc pc = .ok (.checkcast idx, 3))
    (kk : zW X Q h k n (pc + 3) env (.ref nm :: st)) : zW X Q h k n pc env (.ref nm :: st) := by
  obtain ⟨p, l, e, R, s, m, args, below, meth, c, D, dA, r0, A, mc, ms⟩ := X
  obtain ⟨hx, hb, hml, hrt, hlk, hnm, hown, hts, hN, hNc, hK, hA0, hfl, hR, hmc, hms, hG, hTb⟩ := K
  intro r H locs ls st' g0 g1 g2 g3 g4 g5
  obtain ⟨a, _, gr, rfl, g6⟩ := zvs_r g5
  obtain ⟨cell, q1, q2, q3⟩ := zcell hK g1 hn gr hci
  exact va_castY hx hb hown (hts _ hl) (hN _ hc rfl) ⟨cell, q1, q2, q3⟩ dd (kk r H locs ls _ g0 g1 g2 g3 g4 (g6.r gr))
theorem z_castN (K : zK y cc nL ret hh d kc ks X) {idx : Nat} (dd : decode cc pc = .ok (.checkcast idx, 3)) (kk : zW X Q h k n (pc + 3) env (.null :: st)) : zW X Q h k n pc env (.null :: st) := by
  obtain ⟨p, l, e, R, s, m, args, below, meth, c, D, dA, r0, A, mc, ms⟩ := X
  obtain ⟨hx, hb, hml, hrt, hlk, hnm, hown, hts, hN, hNc, hK, hA0, hfl, hR, hmc, hms, hG, hTb⟩ := K
  intro r H locs ls st' g0 g1 g2 g3 g4 g5
  obtain ⟨_, rfl, g6⟩ := zvs_n g5
  exact lv_castN hx hb dd (kk r H locs ls _ g0 g1 g2 g3 g4 g6.n)
/-- checkcast of an array of ints or of bytes -/
theorem z_castA (K : zK y cc nL ret hh d kc ks X) {idx nm N ty : Nat} {f : Nat → Int32} {C : String} (hn : h nm = some (.inl (ty, N, .inl f))) (hty : ty = 0 ∧ C = "[I" ∨ ty = 1 ∧ C = "[B") (hl : Jvm.Cond.classLink y.cls idx C ∈ lw_all) (dd : decode cc pc = .ok (.checkcast idx, 3))
    (kk : zW X Q h k n (pc + 3) env (.ref nm :: st)) : zW X Q h k n pc env (.ref nm :: st) := by
  obtain ⟨p, l, e, R, s, m, args, below, meth, c, D, dA, r0, A, mc, ms⟩ := X
  obtain ⟨hx, hb, hml, hrt, hlk, hnm, hown, hts, hN, hNc, hK, hA0, hfl, hR, hmc, hms, hG, hTb⟩ := K
  intro r H locs ls st' g0 g1 g2 g3 g4 g5
  obtain ⟨a, _, gr, rfl, g6⟩ := zvs_r g5
  have hat : va_at D zcl (a, .inl (dA ty, N, .inl f)) H := g1.at hn gr
  have hC : s.vm.findClass C = some (dA ty) := by
    rcases hty with ⟨rfl, rfl⟩ | ⟨rfl, rfl⟩
    · exact (hK.2 0 _ rfl).2
    · exact (hK.2 1 _ rfl).2
  exact va_castA hx hb hown (hts _ hl) (zP1 hat) 0 rfl hC dd (kk r H locs ls _ g0 g1 g2 g3 g4 (g6.r gr))
theorem z_instY (K : zK y cc nL ret hh d kc ks X) {idx nm ci : Nat} {fs : List Value} {C E : String} (hn : h nm = some (.inr (ci, fs))) (hci : (zcl[ci]?).map (fun q => q.1) = some C) (hl : Jvm.Cond.classLink y.cls idx E ∈ lw_all) (hc : Jvm.Cond.castable C E ∈ lw_tbl) (dd : decode cc pc = .ok (.instanceof idx, 3))
    (kk : zW X Q h k n (pc + 3) env (.int (iI 1) :: st)) : zW X Q h k n pc env (.ref nm :: st) := by
  obtain ⟨p, l, e, R, s, m, args, below, meth, c, D, dA, r0, A, mc, ms⟩ := X
  obtain ⟨hx, hb, hml, hrt, hlk, hnm, hown, hts, hN, hNc, hK, hA0, hfl, hR, hmc, hms, hG, hTb⟩ := K
  intro r H locs ls st' g0 g1 g2 g3 g4 g5
  obtain ⟨a, _, gr, rfl, g6⟩ := zvs_r g5
  obtain ⟨cell, q1, q2, q3⟩ := zcell hK g1 hn gr hci
  exact va_instY hx hb hown (hts _ hl) (hN _ hc rfl) ⟨cell, q1, q2, q3⟩ dd (kk r H locs ls _ g0 g1 g2 g3 g4 g6.i)
theorem z_instN (K : zK y cc nL ret hh d kc ks X) {idx : Nat} (dd : decode cc pc = .ok (.instanceof idx, 3)) (kk : zW X Q h k n (pc + 3) env (.int (iI 0) :: st)) : zW X Q h k n pc env (.null :: st) := by
  obtain ⟨p, l, e, R, s, m, args, below, meth, c, D, dA, r0, A, mc, ms⟩ := X
  obtain ⟨hx, hb, hml, hrt, hlk, hnm, hown, hts, hN, hNc, hK, hA0, hfl, hR, hmc, hms, hG, hTb⟩ := K
  intro r H locs ls st' g0 g1 g2 g3 g4 g5
  obtain ⟨_, rfl, g6⟩ := zvs_n g5
  exact lv_instN hx hb dd (kk r H locs ls _ g0 g1 g2 g3 g4 g6.i)
theorem z_acmpS (K : zK y cc nL ret hh d kc ks X) {nm : Nat} {off : Int} {tgt : Nat} (dd : decode cc pc = .ok (.if_acmp .eq off, 3)) (ht : (pc : Int) + off = (tgt : Int))
    (kk : zW X Q h k n tgt env st) : zW X Q h k n pc env (.ref nm :: .ref nm :: st) := by
  obtain ⟨p, l, e, R, s, m, args, below, meth, c, D, dA, r0, A, mc, ms⟩ := X
  obtain ⟨hx, hb, hml, hrt, hlk, hnm, hown, hts, hN, hNc, hK, hA0, hfl, hR, hmc, hms, hG, hTb⟩ := K
  intro r H locs ls st' g0 g1 g2 g3 g4 g5
  obtain ⟨a, _, gr, rfl, g6⟩ := zvs_r g5
  obtain ⟨b, _, gr2, rfl, g7⟩ := zvs_r g6
  cases Option.some.inj (gr.symm.trans gr2)
  exact lv_acmp_eq (rx := some a) (ry := some a) hx hb dd ht (fun _ => kk r H locs ls _ g0 g1 g2 g3 g4 g7) (fun q => absurd rfl q)
theorem z_acmpD (K : zK y cc nL ret hh d kc ks X) {n1 n2 : Nat} {off : Int} {tgt : Nat} (hne : n1 ≠ n2) (h8 : 1000 ≤ n1 ∨ 1000 ≤ n2) (hd1 : n1 < 3 ∨ 8 < n1) (hd2 : n2 < 3 ∨ 8 < n2) (dd : decode cc pc = .ok (.if_acmp .eq off, 3)) (ht : (pc : Int) + off = (tgt : Int))
    (kk : zW X Q h k n (pc + 3) env st) : zW X Q h k n pc env (.ref n2 :: .ref n1 :: st) := by
  obtain ⟨p, l, e, R, s, m, args, below, meth, c, D, dA, r0, A, mc, ms⟩ := X
  obtain ⟨hx, hb, hml, hrt, hlk, hnm, hown, hts, hN, hNc, hK, hA0, hfl, hR, hmc, hms, hG, hTb⟩ := K
  intro r H locs ls st' g0 g1 g2 g3 g4 g5
  obtain ⟨a, _, gr, rfl, g6⟩ := zvs_r g5
  obtain ⟨b, _, gr2, rfl, g7⟩ := zvs_r g6
  refine lv_acmp_eq (rx := some b) (ry := some a) hx hb dd ht (fun q => ?_) (fun _ => kk r H locs ls _ g0 g1 g2 g3 g4 g7)
  cases q
  rcases h8 with h8 | h8
  · exact absurd (g1.2.1 n1 n2 _ gr2 gr h8 hd2) hne
  · exact absurd (g1.2.1 n2 n1 _ gr gr2 h8 hd1).symm hne
theorem z_acmpNS (K : zK y cc nL ret hh d kc ks X) {nm : Nat} {off : Int} {tgt : Nat} (dd : decode cc pc = .ok (.if_acmp .ne off, 3)) (ht : (pc : Int) + off = (tgt : Int))
    (kk : zW X Q h k n (pc + 3) env st) : zW X Q h k n pc env (.ref nm :: .ref nm :: st) := by
  obtain ⟨p, l, e, R, s, m, args, below, meth, c, D, dA, r0, A, mc, ms⟩ := X
  obtain ⟨hx, hb, hml, hrt, hlk, hnm, hown, hts, hN, hNc, hK, hA0, hfl, hR, hmc, hms, hG, hTb⟩ := K
  intro r H locs ls st' g0 g1 g2 g3 g4 g5
  obtain ⟨a, _, gr, rfl, g6⟩ := zvs_r g5
  obtain ⟨b, _, gr2, rfl, g7⟩ := zvs_r g6
  cases Option.some.inj (gr.symm.trans gr2)
  exact lv_acmp_ne (rx := some a) (ry := some a) hx hb dd ht (fun q => absurd rfl q) (fun _ => kk r H locs ls _ g0 g1 g2 g3 g4 g7)
theorem z_ldc (K : zK y cc nL ret hh d kc ks X) {idx : Nat} {v : Int32} (hw : Jvm.Cond.constant y.cls idx v ∈ lw_all) (dd : decode cc pc = .ok (.ldc idx, 2)) (kk : zW X Q h k n (pc + 2) env (.int v :: st)) : zW X Q h k n pc env st := by
  obtain ⟨p, l, e, R, s, m, args, below, meth, c, D, dA, r0, A, mc, ms⟩ := X
  obtain ⟨hx, hb, hml, hrt, hlk, hnm, hown, hts, hN, hNc, hK, hA0, hfl, hR, hmc, hms, hG, hTb⟩ := K
  intro r H locs ls st' g0 g1 g2 g3 g4 g5
  exact lv_ldc hx hb hown (hts _ hw) dd (kk r H locs ls _ g0 g1 g2 g3 g4 g5.i)
theorem z_ldcw (K : zK y cc nL ret hh d kc ks X) {idx : Nat} {v : Int32} (hw : Jvm.Cond.constant y.cls idx v ∈ lw_all) (dd : decode cc pc = .ok (.ldc_w idx, 3)) (kk : zW X Q h k n (pc + 3) env (.int v :: st)) : zW X Q h k n pc env st := by
  obtain ⟨p, l, e, R, s, m, args, below, meth, c, D, dA, r0, A, mc, ms⟩ := X
  obtain ⟨hx, hb, hml, hrt, hlk, hnm, hown, hts, hN, hNc, hK, hA0, hfl, hR, hmc, hms, hG, hTb⟩ := K
  intro r H locs ls st' g0 g1 g2 g3 g4 g5
  exact lv_ldcw hx hb hown (hts _ hw) dd (kk r H locs ls _ g0 g1 g2 g3 g4 g5.i)
/-- the class object of the arrays of Object has the name 7 -/
theorem z_ldcM (K : zK y cc nL ret hh d kc ks X) {idx : Nat} {c0 : zC} (hl : Jvm.Cond.classLink y.cls idx "[Ljava/lang/Object;" ∈ lw_all) (hn : h 7 = some c0) (dd : decode cc pc = .ok (.ldc idx, 2)) (kk : zW X Q h k n (pc + 2) env (.ref 7 :: st)) : zW X Q h k n pc env st := by
  obtain ⟨p, l, e, R, s, m, args, below, meth, c, D, dA, r0, A, mc, ms⟩ := X
  obtain ⟨hx, hb, hml, hrt, hlk, hnm, hown, hts, hN, hNc, hK, hA0, hfl, hR, hmc, hms, hG, hTb⟩ := K
  intro r H locs ls st' g0 g1 g2 g3 g4 g5
  obtain ⟨a, ha⟩ : ∃ a, r 7 = some a := by
    cases e9 : r 7 with
    | some a => exact ⟨a, rfl⟩
    | none => rw [(g1.1 7).mpr e9] at hn; cases hn
  exact va_ldcM hx hb hown (hts _ hl) (hG.2.1 a (by rw [← g0.eq (by decide)]; exact ha)) dd (kk r H locs ls _ g0 g1 g2 g3 g4 (g5.r ha))
theorem z_getC (K : zK y cc nL ret hh d kc ks X) {idx nm N : Nat} {f : Nat → Option Nat} {c0 : zC} (hn9 : h nm = some (.inl (6, N, .inr (.inr (.inr (.inr f)))))) (hl : Jvm.Cond.methodLink y.cls idx ⟨"java/lang/Object", "getClass", "()Ljava/lang/Class;"⟩ ∈ lw_all) (hsel : Jvm.Cond.selects "[Ljava/lang/Object;" ⟨"java/lang/Object", "getClass", "()Ljava/lang/Class;"⟩ ⟨"java/lang/Object", "getClass", "()Ljava/lang/Class;"⟩ ∈ lw_all) (hin : Jvm.Cond.instanceMethod ⟨"java/lang/Object", "getClass", "()Ljava/lang/Class;"⟩ ∈ lw_all) (hn : h 7 = some c0) (hd : 1 ≤ d) (hcat : (st.map fun v => v.category).sum ≤ 8) (dd : decode cc pc = .ok (.invokevirtual idx, 3)) (kk : zW X Q h k n (pc + 3) env (.ref 7 :: st)) : zW X Q h k n pc env (.ref nm :: st) := by
  obtain ⟨p, l, e, R, s, m, args, below, meth, c, D, dA, r0, A, mc, ms⟩ := X
  obtain ⟨hx, hb, hml, hrt, hlk, hnm, hown, hts, hN, hNc, hK, hA0, hfl, hR, hmc, hms, hG, hTb⟩ := K
  intro r H locs ls st' g0 g1 g2 g3 g4 g5
  obtain ⟨b, _, gr, rfl, g6⟩ := zvs_r g5
  obtain ⟨a, ha⟩ : ∃ a, r 7 = some a := by
    cases e9 : r 7 with
    | some a => exact ⟨a, rfl⟩
    | none => rw [(g1.1 7).mpr e9] at hn; cases hn
  have hat : ∃ cell : Cell, H[b]? = some cell ∧ cell.vm.isStatics = false ∧ cell.cls = dA 6 := by
    rcases g1.2.2.2 nm _ b hn9 gr with ⟨g, -, hat⟩ | ⟨-, cell, z1, z2, z3, ⟨v, z4, -⟩ | ⟨ty', f', z4, z5, z6⟩⟩
    · have hat : H[b]? = some (vp_cell (dA 6) (N, .inr (.inr (.inr (.inr g))))) := hat
      exact ⟨_, hat, rfl, rfl⟩
    · cases z4
    · cases z4; exact ⟨cell, z1, z2, z5⟩
  obtain ⟨cell9, hat, hst9, hcl9⟩ := hat
  have hcl : s.vm.findClass "[Ljava/lang/Object;" = some (dA 6) := va_nmO (hK.2 6 _ rfl).2 (by decide)
  exact va_getC hx hb g4.1.symm hown (hts _ hl) (va_Dc.use hNc.2.2.1) (hts _ hsel) (hts _ hin) (hts _ q231) (hG.2.1 a (by rw [← g0.eq (by decide)]; exact ha)) ⟨cell9, hat, hst9, by rw [hcl9]; exact hcl⟩ (by rw [hR]; exact hd) (by rw [hR, g6.cats]; show _ + 14 ≤ 64 * d; omega) dd (kk r H locs ls _ g0 g1 g2 g3 g4 (g6.r ha))
/-- the place j of the cache of small Integers -/
theorem z_aaldI (K : zK y cc nL ret hh d kc ks X) {a : Int} {c0 c1 : zC} (hn6 : h 6 = some c0) (h0 : 0 ≤ a) (h1 : a < 256) (hn : h (300 + a.toNat) = some c1) (dd : decode cc pc = .ok (.aaload, 1)) (kk : zW X Q h k n (pc + 1) env (.ref (300 + a.toNat) :: st)) : zW X Q h k n pc env (.int (iI a) :: .ref 6 :: st) := by
  obtain ⟨p, l, e, R, s, m, args, below, meth, c, D, dA, r0, A, mc, ms⟩ := X
  obtain ⟨hx, hb, hml, hrt, hlk, hnm, hown, hts, hN, hNc, hK, hA0, hfl, hR, hmc, hms, hG, hTb⟩ := K
  intro r H locs ls st' g0 g1 g2 g3 g4 g5
  obtain ⟨_, rfl, g6⟩ := zvs_i g5
  obtain ⟨b, _, gr, rfl, g7⟩ := zvs_r g6
  obtain ⟨x, hx9⟩ : ∃ x, r (300 + a.toNat) = some x := by
    cases e9 : r (300 + a.toNat) with
    | some x => exact ⟨x, rfl⟩
    | none => rw [(g1.1 _).mpr e9] at hn; cases hn
  obtain ⟨ad, hT9, had, -⟩ := hG.2.2
  have hT9 := hT9 b (by rw [← g0.eq (by decide)]; exact gr)
  have hxa := had a.toNat x (by omega) (by rw [← g0.eq (by omega)]; exact hx9)
  refine vb_tq (v := .ref x) hx hb hT9 g3 (iI_in h0 h1 (by decide)) ?_ dd (kk r H locs ls _ g0 g1 g2 g3 g4 (g7.r hx9))
  rw [iI_clamp h0 (by omega), hxa]
theorem zwsW {args : Array Value} {s : State} {z : MethodName} {bytes : ByteArray} {maxL : Nat} {rt : Option FieldType} {h9 : List (Nat × Nat × Nat × Nat)} (hts : ∀ w ∈ lw_all, w.before args s = true) (hc : Cond.codeWith z bytes maxL rt h9 ∈ lw_all) : ∀ w ∈ wsW_ z bytes maxL rt h9, ∀ (a' : Array Value) (U : State), s.WarmedH U.vm → w.before a' U = true := pay_in hts (lw_methW hc)
theorem z_callI (K : zK y cc nL ret hh d kc ks X) {idx nm : Nat}  {z : MethodName} {bytes : ByteArray} {maxL : Nat} {na d' mc' ms' : Nat} {as fs : List Value} {Qc : zO → zH → Prop} {stk : List Value} 
    (hM : zMet z (ws_ z bytes maxL none) d' (.ref nm :: as) h Qc mc' ms') (hcode : Cond.code z bytes maxL none ∈ lw_all) (hini : Cond.initialized z.cls ∈ lw_all) (hpl : z.cls ≠ "java/lang/invoke/MethodHandle" ∧ z.cls ≠ "java/lang/invoke/VarHandle") (hlen : (parseMethodDescriptor z.desc).map (fun d => d.parameters.length) = some na) (hmx : maxL ≤ 45) (hin : z.name = "<init>") (hlink : Cond.methodLink y.cls idx z ∈ lw_all) (hinst : Cond.instanceMethod z ∈ lw_all) (hna : as.length = na) (hstk : as.reverse ++ .ref nm :: st = stk) (hd : d' < d) (hk : k + mc' ≤ kc) (hn : n + ms' ≤ ks) (hcat : (st.map fun v => v.category).sum ≤ 8)
    (dd : decode cc pc = .ok (.invokespecial idx, 3)) (kx : ∀ q h', Qc (.inr q) h' → zT X Q h' (k + mc') (n + ms') pc env q) (kk : ∀ v h', Qc (.inl v) h' → zW X Q h' (k + mc') (n + ms') (pc + 3) env (v.toList ++ st)) : zW X Q h k n pc env stk := by
  subst hstk
  obtain ⟨p, l, e, R, s, m, args, below, meth, c, D, dA, r0, A, mc, ms⟩ := X
  obtain ⟨hx, hb, hml, hrt, hlk, hnm, hown, hts, hN, hNc, hK, hA0, hfl, hR, hmc, hms, hG, hTb⟩ := K
  intro r H locs ls st' g0 g1 g2 g3 g4 g5
  obtain ⟨sa, sb, rfl, ha, hb5⟩ := zvs.split g5
  obtain ⟨b, rest, gr, rfl, g6⟩ := zvs_r hb5
  have has : zvs r (.ref nm :: as) (.ref b :: sa.reverse) := zvs.r gr (by have := ha.rev; rwa [List.reverse_reverse] at this)
  refine zx_after (len := 3) (a := (Value.ref b :: sa.reverse).toArray) g0 g3 g4 g6 (fun T hT X => ?_) kk kx
  have hbk := zx_back (p := p) (e := e) (below := below) (s := s) (sargs := args) (len := 3) (R := R) (D := D) (dA := dA) (A := A) (l := l) hM hfl has (by rw [hR]; exact hd) (by rw [hR]; show 8 + (maxL + 11) + 64 * d' ≤ 64 * d; omega) (zws hts hcode) (Or.inl List.mem_cons_self) (fun a' U hW => word_at hW (Or.inl (by first | rfl | simp [Cond.onTables, Cond.keeps, Cond.steady])) (hts _ hini))
  exact vx_callI X hx hown hin (hts _ hlink) (hts _ hinst) (hts _ hcode) hpl hbk (g := F0 m pc ls (sa ++ .ref b :: rest)) rfl (by show ls.size = c.maxLocals; exact g4.1) (argsL := sa.reverse) (rest := rest) (fun sig hs => by rw [List.length_reverse, ha.len, List.length_reverse, hna]; exact zlen hlen hs) (by rw [List.reverse_reverse]) (lv_room (by rw [g6.cats]; exact hcat)) (by rw [hb]; exact dd)
    (fun vm₁ hW => ⟨by rw [hR]; exact hk, by rw [hR]; exact hn, zPc.call hT hW g0 g1 g2 g3 hK hA0 hN hNc hG⟩)
theorem z_callIN (K : zK y cc nL ret hh d kc ks X) {idx nm : Nat} {host : String} {z : MethodName} {bytes : ByteArray} {maxL : Nat} {na d' mc' ms' : Nat} {as fs : List Value} {Qc : zO → zH → Prop} {stk : List Value} 
    (hM : zMet z (ws_ z bytes maxL none) d' (.ref nm :: as) h Qc mc' ms') (hcode : Cond.code z bytes maxL none ∈ lw_all) (hini : Cond.initialized z.cls ∈ lw_all) (hpl : z.cls ≠ "java/lang/invoke/MethodHandle" ∧ z.cls ≠ "java/lang/invoke/VarHandle") (hlen : (parseMethodDescriptor z.desc).map (fun d => d.parameters.length) = some na) (hmx : maxL ≤ 45) (hin : z.name = "<init>") (hlink : Cond.methodLinkNest y.cls idx z host ∈ lw_tbl) (hinst : Cond.instanceMethod z ∈ lw_all) (hna : as.length = na) (hstk : as.reverse ++ .ref nm :: st = stk) (hd : d' < d) (hk : k + mc' ≤ kc) (hn : n + ms' ≤ ks) (hcat : (st.map fun v => v.category).sum ≤ 8)
    (dd : decode cc pc = .ok (.invokespecial idx, 3)) (kx : ∀ q h', Qc (.inr q) h' → zT X Q h' (k + mc') (n + ms') pc env q) (kk : ∀ v h', Qc (.inl v) h' → zW X Q h' (k + mc') (n + ms') (pc + 3) env (v.toList ++ st)) : zW X Q h k n pc env stk := by
  subst hstk
  obtain ⟨p, l, e, R, s, m, args, below, meth, c, D, dA, r0, A, mc, ms⟩ := X
  obtain ⟨hx, hb, hml, hrt, hlk, hnm, hown, hts, hN, hNc, hK, hA0, hfl, hR, hmc, hms, hG, hTb⟩ := K
  intro r H locs ls st' g0 g1 g2 g3 g4 g5
  obtain ⟨sa, sb, rfl, ha, hb5⟩ := zvs.split g5
  obtain ⟨b, rest, gr, rfl, g6⟩ := zvs_r hb5
  have has : zvs r (.ref nm :: as) (.ref b :: sa.reverse) := zvs.r gr (by have := ha.rev; rwa [List.reverse_reverse] at this)
  refine zx_after (len := 3) (a := (Value.ref b :: sa.reverse).toArray) g0 g3 g4 g6 (fun T hT X => ?_) kk kx
  have hbk := zx_back (p := p) (e := e) (below := below) (s := s) (sargs := args) (len := 3) (R := R) (D := D) (dA := dA) (A := A) (l := l) hM hfl has (by rw [hR]; exact hd) (by rw [hR]; show 8 + (maxL + 11) + 64 * d' ≤ 64 * d; omega) (zws hts hcode) (Or.inl List.mem_cons_self) (fun a' U hW => word_at hW (Or.inl (by first | rfl | simp [Cond.onTables, Cond.keeps, Cond.steady])) (hts _ hini))
  exact vx_callIN X hx hown hin (va_Nw.use rfl (hN _ hlink rfl)) (hts _ hinst) (hts _ hcode) hpl hbk (g := F0 m pc ls (sa ++ .ref b :: rest)) rfl (by show ls.size = c.maxLocals; exact g4.1) (argsL := sa.reverse) (rest := rest) (fun sig hs => by rw [List.length_reverse, ha.len, List.length_reverse, hna]; exact zlen hlen hs) (by rw [List.reverse_reverse]) (lv_room (by rw [g6.cats]; exact hcat)) (by rw [hb]; exact dd)
    (fun vm₁ hW => ⟨by rw [hR]; exact hk, by rw [hR]; exact hn, zPc.call hT hW g0 g1 g2 g3 hK hA0 hN hNc hG⟩)
theorem z_callVN (K : zK y cc nL ret hh d kc ks X) {idx ci nm : Nat} {host C : String} {z : MethodName} {bytes : ByteArray} {maxL : Nat} {rt : Option FieldType} {na d' mc' ms' : Nat} {as fs : List Value} {Qc : zO → zH → Prop} {stk : List Value} 
    (hM : zMet z (ws_ z bytes maxL rt) d' (.ref nm :: as) h Qc mc' ms') (hcode : Cond.code z bytes maxL rt ∈ lw_all) (hini : Cond.initialized z.cls ∈ lw_all) (hpl : z.cls ≠ "java/lang/invoke/MethodHandle" ∧ z.cls ≠ "java/lang/invoke/VarHandle") (hlen : (parseMethodDescriptor z.desc).map (fun d => d.parameters.length) = some na) (hmx : maxL ≤ 45) (hlink : Cond.methodLinkNest y.cls idx z host ∈ lw_tbl) (hinst : Cond.instanceMethod z ∈ lw_all) (hsel : Cond.selects C z z ∈ lw_all) (hobj : h nm = some (.inr (ci, fs))) (hci : (zcl[ci]?).map (fun q => q.1) = some C) (hna : as.length = na) (hstk : as.reverse ++ .ref nm :: st = stk) (hd : d' < d) (hk : k + mc' ≤ kc) (hn : n + ms' ≤ ks) (hcat : (st.map fun v => v.category).sum ≤ 8)
    (dd : decode cc pc = .ok (.invokevirtual idx, 3)) (kx : ∀ q h', Qc (.inr q) h' → zT X Q h' (k + mc') (n + ms') pc env q) (kk : ∀ v h', Qc (.inl v) h' → zW X Q h' (k + mc') (n + ms') (pc + 3) env (v.toList ++ st)) : zW X Q h k n pc env stk := by
  subst hstk
  obtain ⟨p, l, e, R, s, m, args, below, meth, c, D, dA, r0, A, mc, ms⟩ := X
  obtain ⟨hx, hb, hml, hrt, hlk, hnm, hown, hts, hN, hNc, hK, hA0, hfl, hR, hmc, hms, hG, hTb⟩ := K
  intro r H locs ls st' g0 g1 g2 g3 g4 g5
  obtain ⟨sa, sb, rfl, ha, hb5⟩ := zvs.split g5
  obtain ⟨b, rest, gr, rfl, g6⟩ := zvs_r hb5
  obtain ⟨cell, q1, q2, q3⟩ := zcell hK g1 hobj gr hci
  have has : zvs r (.ref nm :: as) (.ref b :: sa.reverse) := zvs.r gr (by have := ha.rev; rwa [List.reverse_reverse] at this)
  refine zx_after (len := 3) (a := (Value.ref b :: sa.reverse).toArray) g0 g3 g4 g6 (fun T hT X => ?_) kk kx
  have hbk := zx_back (p := p) (e := e) (below := below) (s := s) (sargs := args) (len := 3) (R := R) (D := D) (dA := dA) (A := A) (l := l) hM hfl has (by rw [hR]; exact hd) (by rw [hR]; show 8 + (maxL + 11) + 64 * d' ≤ 64 * d; omega) (zws hts hcode) (Or.inl List.mem_cons_self) (fun a' U hW => word_at hW (Or.inl (by first | rfl | simp [Cond.onTables, Cond.keeps, Cond.steady])) (hts _ hini))
  exact vx_callVN X hx hown (va_Nw.use rfl (hN _ hlink rfl)) (hts _ hinst) (hts _ hsel) (hts _ hcode) hpl hbk (by rw [hT]; exact q1) q2 q3 (g := F0 m pc ls (sa ++ .ref b :: rest)) rfl (by show ls.size = c.maxLocals; exact g4.1) (argsL := sa.reverse) (rest := rest) (fun sig hs => by rw [List.length_reverse, ha.len, List.length_reverse, hna]; exact zlen hlen hs) (by rw [List.reverse_reverse]) (lv_room (by rw [g6.cats]; exact hcat)) (by rw [hb]; exact dd)
    (fun vm₁ hW => ⟨by rw [hR]; exact hk, by rw [hR]; exact hn, zPc.call hT hW g0 g1 g2 g3 hK hA0 hN hNc hG⟩)
theorem z_callSN (K : zK y cc nL ret hh d kc ks X) {idx : Nat} {host : String} {z : MethodName} {bytes : ByteArray} {maxL : Nat} {rt : Option FieldType} {na d' mc' ms' : Nat} {as fs : List Value} {Qc : zO → zH → Prop} {stk : List Value} 
    (hM : zMet z (ws_ z bytes maxL rt) d' (as) h Qc mc' ms') (hcode : Cond.code z bytes maxL rt ∈ lw_all) (hini : Cond.initialized z.cls ∈ lw_all) (hpl : z.cls ≠ "java/lang/invoke/MethodHandle" ∧ z.cls ≠ "java/lang/invoke/VarHandle") (hlen : (parseMethodDescriptor z.desc).map (fun d => d.parameters.length) = some na) (hmx : maxL ≤ 45) (hlink : Cond.methodLinkNest y.cls idx z host ∈ lw_tbl) (hstat : Cond.static z ∈ lw_all) (hna : as.length = na) (hstk : as.reverse ++ st = stk) (hd : d' < d) (hk : k + mc' ≤ kc) (hn : n + ms' ≤ ks) (hcat : (st.map fun v => v.category).sum ≤ 8)
    (dd : decode cc pc = .ok (.invokestatic idx, 3)) (kx : ∀ q h', Qc (.inr q) h' → zT X Q h' (k + mc') (n + ms') pc env q) (kk : ∀ v h', Qc (.inl v) h' → zW X Q h' (k + mc') (n + ms') (pc + 3) env (v.toList ++ st)) : zW X Q h k n pc env stk := by
  subst hstk
  obtain ⟨p, l, e, R, s, m, args, below, meth, c, D, dA, r0, A, mc, ms⟩ := X
  obtain ⟨hx, hb, hml, hrt, hlk, hnm, hown, hts, hN, hNc, hK, hA0, hfl, hR, hmc, hms, hG, hTb⟩ := K
  intro r H locs ls st' g0 g1 g2 g3 g4 g5
  obtain ⟨sa, sb, rfl, ha, hb5⟩ := zvs.split g5
  have g6 := hb5
  have has : zvs r as sa.reverse := by have := ha.rev; rwa [List.reverse_reverse] at this
  refine zx_after (len := 3) (a := (sa.reverse).toArray) g0 g3 g4 g6 (fun T hT X => ?_) kk kx
  have hbk := zx_back (p := p) (e := e) (below := below) (s := s) (sargs := args) (len := 3) (R := R) (D := D) (dA := dA) (A := A) (l := l) hM hfl has (by rw [hR]; exact hd) (by rw [hR]; show 8 + (maxL + 11) + 64 * d' ≤ 64 * d; omega) (zws hts hcode) (Or.inl List.mem_cons_self) (fun a' U hW => word_at hW (Or.inl (by first | rfl | simp [Cond.onTables, Cond.keeps, Cond.steady])) (hts _ hini))
  exact vx_callSN X hx hown (va_Nw.use rfl (hN _ hlink rfl)) (hts _ hstat) (hts _ hini) (hts _ hcode) hpl hbk (g := F0 m pc ls (sa ++ sb)) rfl (by show ls.size = c.maxLocals; exact g4.1) (argsL := sa.reverse) (rest := sb) (fun sig hs => by rw [List.length_reverse, ha.len, List.length_reverse, hna]; exact zlen hlen hs) (by rw [List.reverse_reverse]) (lv_room (by rw [g6.cats]; exact hcat)) (by rw [hb]; exact dd)
    (fun vm₁ hW => ⟨by rw [hR]; exact hk, by rw [hR]; exact hn, zPc.call hT hW g0 g1 g2 g3 hK hA0 hN hNc hG⟩)
theorem z_callVW (K : zK y cc nL ret hh d kc ks X) {idx ci nm : Nat} {C : String} {z : MethodName} {bytes : ByteArray} {maxL : Nat} {rt : Option FieldType} {na d' mc' ms' : Nat} {as fs : List Value} {Qc : zO → zH → Prop} {stk : List Value} {h9 : List (Nat × Nat × Nat × Nat)}
    (hM : zMet z (wsW_ z bytes maxL rt h9) d' (.ref nm :: as) h Qc mc' ms') (hcode : Cond.codeWith z bytes maxL rt h9 ∈ lw_all) (hini : Cond.initialized z.cls ∈ lw_all) (hpl : z.cls ≠ "java/lang/invoke/MethodHandle" ∧ z.cls ≠ "java/lang/invoke/VarHandle") (hlen : (parseMethodDescriptor z.desc).map (fun d => d.parameters.length) = some na) (hmx : maxL ≤ 45) (hlink : Cond.methodLink y.cls idx z ∈ lw_all) (hinst : Cond.instanceMethod z ∈ lw_all) (hsel : Cond.selects C z z ∈ lw_all) (hobj : h nm = some (.inr (ci, fs))) (hci : (zcl[ci]?).map (fun q => q.1) = some C) (hna : as.length = na) (hstk : as.reverse ++ .ref nm :: st = stk) (hd : d' < d) (hk : k + mc' ≤ kc) (hn : n + ms' ≤ ks) (hcat : (st.map fun v => v.category).sum ≤ 8)
    (dd : decode cc pc = .ok (.invokevirtual idx, 3)) (kx : ∀ q h', Qc (.inr q) h' → zT X Q h' (k + mc') (n + ms') pc env q) (kk : ∀ v h', Qc (.inl v) h' → zW X Q h' (k + mc') (n + ms') (pc + 3) env (v.toList ++ st)) : zW X Q h k n pc env stk := by
  subst hstk
  obtain ⟨p, l, e, R, s, m, args, below, meth, c, D, dA, r0, A, mc, ms⟩ := X
  obtain ⟨hx, hb, hml, hrt, hlk, hnm, hown, hts, hN, hNc, hK, hA0, hfl, hR, hmc, hms, hG, hTb⟩ := K
  intro r H locs ls st' g0 g1 g2 g3 g4 g5
  obtain ⟨sa, sb, rfl, ha, hb5⟩ := zvs.split g5
  obtain ⟨b, rest, gr, rfl, g6⟩ := zvs_r hb5
  obtain ⟨cell, q1, q2, q3⟩ := zcell hK g1 hobj gr hci
  have has : zvs r (.ref nm :: as) (.ref b :: sa.reverse) := zvs.r gr (by have := ha.rev; rwa [List.reverse_reverse] at this)
  refine zx_after (len := 3) (a := (Value.ref b :: sa.reverse).toArray) g0 g3 g4 g6 (fun T hT X => ?_) kk kx
  have hbk := zx_back (p := p) (e := e) (below := below) (s := s) (sargs := args) (len := 3) (R := R) (D := D) (dA := dA) (A := A) (l := l) hM hfl has (by rw [hR]; exact hd) (by rw [hR]; show 8 + (maxL + 11) + 64 * d' ≤ 64 * d; omega) (zwsW hts hcode) (Or.inr ⟨_, List.mem_cons_self⟩) (fun a' U hW => word_at hW (Or.inl (by first | rfl | simp [Cond.onTables, Cond.keeps, Cond.steady])) (hts _ hini))
  exact vx_callVX X hx hown (hts _ hlink) (hts _ hinst) (hts _ hsel) (hts _ hcode) hpl hbk (by rw [hT]; exact q1) q2 q3 (g := F0 m pc ls (sa ++ .ref b :: rest)) rfl (by show ls.size = c.maxLocals; exact g4.1) (argsL := sa.reverse) (rest := rest) (fun sig hs => by rw [List.length_reverse, ha.len, List.length_reverse, hna]; exact zlen hlen hs) (by rw [List.reverse_reverse]) (lv_room (by rw [g6.cats]; exact hcat)) (by rw [hb]; exact dd)
    (fun vm₁ hW => ⟨by rw [hR]; exact hk, by rw [hR]; exact hn, zPc.call hT hW g0 g1 g2 g3 hK hA0 hN hNc hG⟩)
theorem z_callSW (K : zK y cc nL ret hh d kc ks X) {idx : Nat}  {z : MethodName} {bytes : ByteArray} {maxL : Nat} {rt : Option FieldType} {na d' mc' ms' : Nat} {as fs : List Value} {Qc : zO → zH → Prop} {stk : List Value} {h9 : List (Nat × Nat × Nat × Nat)}
    (hM : zMet z (wsW_ z bytes maxL rt h9) d' (as) h Qc mc' ms') (hcode : Cond.codeWith z bytes maxL rt h9 ∈ lw_all) (hini : Cond.initialized z.cls ∈ lw_all) (hpl : z.cls ≠ "java/lang/invoke/MethodHandle" ∧ z.cls ≠ "java/lang/invoke/VarHandle") (hlen : (parseMethodDescriptor z.desc).map (fun d => d.parameters.length) = some na) (hmx : maxL ≤ 45) (hlink : Cond.methodLink y.cls idx z ∈ lw_all) (hstat : Cond.static z ∈ lw_all) (hna : as.length = na) (hstk : as.reverse ++ st = stk) (hd : d' < d) (hk : k + mc' ≤ kc) (hn : n + ms' ≤ ks) (hcat : (st.map fun v => v.category).sum ≤ 8)
    (dd : decode cc pc = .ok (.invokestatic idx, 3)) (kx : ∀ q h', Qc (.inr q) h' → zT X Q h' (k + mc') (n + ms') pc env q) (kk : ∀ v h', Qc (.inl v) h' → zW X Q h' (k + mc') (n + ms') (pc + 3) env (v.toList ++ st)) : zW X Q h k n pc env stk := by
  subst hstk
  obtain ⟨p, l, e, R, s, m, args, below, meth, c, D, dA, r0, A, mc, ms⟩ := X
  obtain ⟨hx, hb, hml, hrt, hlk, hnm, hown, hts, hN, hNc, hK, hA0, hfl, hR, hmc, hms, hG, hTb⟩ := K
  intro r H locs ls st' g0 g1 g2 g3 g4 g5
  obtain ⟨sa, sb, rfl, ha, hb5⟩ := zvs.split g5
  have g6 := hb5
  have has : zvs r as sa.reverse := by have := ha.rev; rwa [List.reverse_reverse] at this
  refine zx_after (len := 3) (a := (sa.reverse).toArray) g0 g3 g4 g6 (fun T hT X => ?_) kk kx
  have hbk := zx_back (p := p) (e := e) (below := below) (s := s) (sargs := args) (len := 3) (R := R) (D := D) (dA := dA) (A := A) (l := l) hM hfl has (by rw [hR]; exact hd) (by rw [hR]; show 8 + (maxL + 11) + 64 * d' ≤ 64 * d; omega) (zwsW hts hcode) (Or.inr ⟨_, List.mem_cons_self⟩) (fun a' U hW => word_at hW (Or.inl (by first | rfl | simp [Cond.onTables, Cond.keeps, Cond.steady])) (hts _ hini))
  exact vx_callSX X hx hown (hts _ hlink) (hts _ hstat) (hts _ hini) (hts _ hcode) hpl hbk (g := F0 m pc ls (sa ++ sb)) rfl (by show ls.size = c.maxLocals; exact g4.1) (argsL := sa.reverse) (rest := sb) (fun sig hs => by rw [List.length_reverse, ha.len, List.length_reverse, hna]; exact zlen hlen hs) (by rw [List.reverse_reverse]) (lv_room (by rw [g6.cats]; exact hcat)) (by rw [hb]; exact dd)
    (fun vm₁ hW => ⟨by rw [hR]; exact hk, by rw [hR]; exact hn, zPc.call hT hW g0 g1 g2 g3 hK hA0 hN hNc hG⟩)
theorem z_callVU (K : zK y cc nL ret hh d kc ks X) {idx ci nm : Nat} {C owner : String} {z x : MethodName} {bytes : ByteArray} {maxL : Nat} {rt : Option FieldType} {na d' mc' ms' : Nat} {as fs : List Value} {Qc : zO → zH → Prop} {stk : List Value} 
    (hM : zMet z (ws_ z bytes maxL rt) d' (.ref nm :: as) h Qc mc' ms') (hcode : Cond.code z bytes maxL rt ∈ lw_all) (hini : Cond.initialized z.cls ∈ lw_all) (hpl : z.cls ≠ "java/lang/invoke/MethodHandle" ∧ z.cls ≠ "java/lang/invoke/VarHandle") (hlen : (parseMethodDescriptor x.desc).map (fun d => d.parameters.length) = some na) (hmx : maxL ≤ 45) (hlink : Cond.methodLink y.cls idx x ∈ lw_all) (hsame : Cond.sameMethod x.cls owner x.name x.desc ∈ lw_all) (hd0 : z = ⟨owner, x.name, x.desc⟩) (hsel : Cond.selects C x z ∈ lw_all) (hinst : Cond.instanceMethod z ∈ lw_all) (hobj : h nm = some (.inr (ci, fs))) (hci : (zcl[ci]?).map (fun q => q.1) = some C) (hna : as.length = na) (hstk : as.reverse ++ .ref nm :: st = stk) (hd : d' < d) (hk : k + mc' ≤ kc) (hn : n + ms' ≤ ks) (hcat : (st.map fun v => v.category).sum ≤ 8)
    (dd : decode cc pc = .ok (.invokevirtual idx, 3)) (kx : ∀ q h', Qc (.inr q) h' → zT X Q h' (k + mc') (n + ms') pc env q) (kk : ∀ v h', Qc (.inl v) h' → zW X Q h' (k + mc') (n + ms') (pc + 3) env (v.toList ++ st)) : zW X Q h k n pc env stk := by
  subst hstk
  obtain ⟨p, l, e, R, s, m, args, below, meth, c, D, dA, r0, A, mc, ms⟩ := X
  obtain ⟨hx, hb, hml, hrt, hlk, hnm, hown, hts, hN, hNc, hK, hA0, hfl, hR, hmc, hms, hG, hTb⟩ := K
  intro r H locs ls st' g0 g1 g2 g3 g4 g5
  obtain ⟨sa, sb, rfl, ha, hb5⟩ := zvs.split g5
  obtain ⟨b, rest, gr, rfl, g6⟩ := zvs_r hb5
  obtain ⟨cell, q1, q2, q3⟩ := zcell hK g1 hobj gr hci
  have has : zvs r (.ref nm :: as) (.ref b :: sa.reverse) := zvs.r gr (by have := ha.rev; rwa [List.reverse_reverse] at this)
  refine zx_after (len := 3) (a := (Value.ref b :: sa.reverse).toArray) g0 g3 g4 g6 (fun T hT X => ?_) kk kx
  have hbk := zx_back (p := p) (e := e) (below := below) (s := s) (sargs := args) (len := 3) (R := R) (D := D) (dA := dA) (A := A) (l := l) hM hfl has (by rw [hR]; exact hd) (by rw [hR]; show 8 + (maxL + 11) + 64 * d' ≤ 64 * d; omega) (zws hts hcode) (Or.inl List.mem_cons_self) (fun a' U hW => word_at hW (Or.inl (by first | rfl | simp [Cond.onTables, Cond.keeps, Cond.steady])) (hts _ hini))
  exact vx_callVU X hx hown (hts _ hlink) (hts _ hsame) (by rw [← hd0]; exact va_Decl.of (hts _ hinst) (hts _ hcode)) (by rw [hd0] at hpl; exact hpl) (hts _ hsel) (hts _ hinst) (hts _ hcode) hbk (by rw [hT]; exact q1) q2 q3 (g := F0 m pc ls (sa ++ .ref b :: rest)) rfl (by show ls.size = c.maxLocals; exact g4.1) (argsL := sa.reverse) (rest := rest) (fun sig hs => by rw [List.length_reverse, ha.len, List.length_reverse, hna]; exact zlen hlen hs) (by rw [List.reverse_reverse]) (lv_room (by rw [g6.cats]; exact hcat)) (by rw [hb]; exact dd)
    (fun vm₁ hW => ⟨by rw [hR]; exact hk, by rw [hR]; exact hn, zPc.call hT hW g0 g1 g2 g3 hK hA0 hN hNc hG⟩)
def zcI (own : String) (idx : Nat) (z : MethodName) (bytes : ByteArray) (maxL : Nat) (na : Nat) : Prop := (Cond.code z bytes maxL none ∈ lw_all ∧ Cond.initialized z.cls ∈ lw_all ∧ (z.cls ≠ "java/lang/invoke/MethodHandle" ∧ z.cls ≠ "java/lang/invoke/VarHandle") ∧ (parseMethodDescriptor z.desc).map (fun d => d.parameters.length) = some na ∧ maxL ≤ 45) ∧ z.name = "<init>" ∧ Cond.methodLink own idx z ∈ lw_all ∧ Cond.instanceMethod z ∈ lw_all
theorem z_cI (K : zK y cc nL ret hh d kc ks X) {idx nm : Nat} {z : MethodName} {bytes : ByteArray} {maxL : Nat} {na d' mc' ms' : Nat} {as fs : List Value} {Qc : zO → zH → Prop} {stk : List Value} (hM : zMet z (ws_ z bytes maxL none) d' (.ref nm :: as) h Qc mc' ms') (cw : zcI y.cls idx z bytes maxL na) (hna : as.length = na) (hstk : as.reverse ++ .ref nm :: st = stk) (hd : d' < d) (hk : k + mc' ≤ kc) (hn : n + ms' ≤ ks) (hcat : (st.map fun v => v.category).sum ≤ 8)
    (dd : decode cc pc = .ok (.invokespecial idx, 3)) (kx : ∀ q h', Qc (.inr q) h' → zT X Q h' (k + mc') (n + ms') pc env q) (kk : ∀ v h', Qc (.inl v) h' → zW X Q h' (k + mc') (n + ms') (pc + 3) env (v.toList ++ st)) : zW X Q h k n pc env stk :=
  z_callI (fs := fs) K hM cw.1.1 cw.1.2.1 cw.1.2.2.1 cw.1.2.2.2.1 cw.1.2.2.2.2 cw.2.1 cw.2.2.1 cw.2.2.2 hna hstk hd hk hn hcat dd kx kk
def zcIN (own : String) (idx : Nat) (z : MethodName) (bytes : ByteArray) (maxL : Nat) (na : Nat) : Prop := (Cond.code z bytes maxL none ∈ lw_all ∧ Cond.initialized z.cls ∈ lw_all ∧ (z.cls ≠ "java/lang/invoke/MethodHandle" ∧ z.cls ≠ "java/lang/invoke/VarHandle") ∧ (parseMethodDescriptor z.desc).map (fun d => d.parameters.length) = some na ∧ maxL ≤ 45) ∧ ∃ host, z.name = "<init>" ∧ Cond.methodLinkNest own idx z host ∈ lw_tbl ∧ Cond.instanceMethod z ∈ lw_all
theorem z_cIN (K : zK y cc nL ret hh d kc ks X) {idx nm : Nat} {z : MethodName} {bytes : ByteArray} {maxL : Nat} {na d' mc' ms' : Nat} {as fs : List Value} {Qc : zO → zH → Prop} {stk : List Value} (hM : zMet z (ws_ z bytes maxL none) d' (.ref nm :: as) h Qc mc' ms') (cw : zcIN y.cls idx z bytes maxL na) (hna : as.length = na) (hstk : as.reverse ++ .ref nm :: st = stk) (hd : d' < d) (hk : k + mc' ≤ kc) (hn : n + ms' ≤ ks) (hcat : (st.map fun v => v.category).sum ≤ 8)
    (dd : decode cc pc = .ok (.invokespecial idx, 3)) (kx : ∀ q h', Qc (.inr q) h' → zT X Q h' (k + mc') (n + ms') pc env q) (kk : ∀ v h', Qc (.inl v) h' → zW X Q h' (k + mc') (n + ms') (pc + 3) env (v.toList ++ st)) : zW X Q h k n pc env stk :=
  let ⟨h1, host, h2, h3, h4⟩ := cw; z_callIN (fs := fs) K hM h1.1 h1.2.1 h1.2.2.1 h1.2.2.2.1 h1.2.2.2.2 h2 h3 h4 hna hstk hd hk hn hcat dd kx kk
def zcVN (own : String) (idx : Nat) (C : String) (z : MethodName) (bytes : ByteArray) (maxL : Nat) (rt : Option FieldType) (na : Nat) : Prop := (Cond.code z bytes maxL rt ∈ lw_all ∧ Cond.initialized z.cls ∈ lw_all ∧ (z.cls ≠ "java/lang/invoke/MethodHandle" ∧ z.cls ≠ "java/lang/invoke/VarHandle") ∧ (parseMethodDescriptor z.desc).map (fun d => d.parameters.length) = some na ∧ maxL ≤ 45) ∧ ∃ host, Cond.methodLinkNest own idx z host ∈ lw_tbl ∧ Cond.instanceMethod z ∈ lw_all ∧ Cond.selects C z z ∈ lw_all
theorem z_cVN (K : zK y cc nL ret hh d kc ks X) {idx ci nm : Nat} {C : String} {z : MethodName} {bytes : ByteArray} {maxL : Nat} {rt : Option FieldType} {na d' mc' ms' : Nat} {as fs : List Value} {Qc : zO → zH → Prop} {stk : List Value} (hM : zMet z (ws_ z bytes maxL rt) d' (.ref nm :: as) h Qc mc' ms') (cw : zcVN y.cls idx C z bytes maxL rt na) (hobj : h nm = some (.inr (ci, fs))) (hci : (zcl[ci]?).map (fun q => q.1) = some C)  (hna : as.length = na) (hstk : as.reverse ++ .ref nm :: st = stk) (hd : d' < d) (hk : k + mc' ≤ kc) (hn : n + ms' ≤ ks) (hcat : (st.map fun v => v.category).sum ≤ 8)
    (dd : decode cc pc = .ok (.invokevirtual idx, 3)) (kx : ∀ q h', Qc (.inr q) h' → zT X Q h' (k + mc') (n + ms') pc env q) (kk : ∀ v h', Qc (.inl v) h' → zW X Q h' (k + mc') (n + ms') (pc + 3) env (v.toList ++ st)) : zW X Q h k n pc env stk :=
  let ⟨h1, host, h2, h3, h4⟩ := cw; z_callVN K hM h1.1 h1.2.1 h1.2.2.1 h1.2.2.2.1 h1.2.2.2.2 h2 h3 h4 hobj hci hna hstk hd hk hn hcat dd kx kk
def zcSN (own : String) (idx : Nat) (z : MethodName) (bytes : ByteArray) (maxL : Nat) (rt : Option FieldType) (na : Nat) : Prop := (Cond.code z bytes maxL rt ∈ lw_all ∧ Cond.initialized z.cls ∈ lw_all ∧ (z.cls ≠ "java/lang/invoke/MethodHandle" ∧ z.cls ≠ "java/lang/invoke/VarHandle") ∧ (parseMethodDescriptor z.desc).map (fun d => d.parameters.length) = some na ∧ maxL ≤ 45) ∧ ∃ host, Cond.methodLinkNest own idx z host ∈ lw_tbl ∧ Cond.static z ∈ lw_all
theorem z_cSN (K : zK y cc nL ret hh d kc ks X) {idx : Nat} {z : MethodName} {bytes : ByteArray} {maxL : Nat} {rt : Option FieldType} {na d' mc' ms' : Nat} {as fs : List Value} {Qc : zO → zH → Prop} {stk : List Value} (hM : zMet z (ws_ z bytes maxL rt) d' (as) h Qc mc' ms') (cw : zcSN y.cls idx z bytes maxL rt na) (hna : as.length = na) (hstk : as.reverse ++ st = stk) (hd : d' < d) (hk : k + mc' ≤ kc) (hn : n + ms' ≤ ks) (hcat : (st.map fun v => v.category).sum ≤ 8)
    (dd : decode cc pc = .ok (.invokestatic idx, 3)) (kx : ∀ q h', Qc (.inr q) h' → zT X Q h' (k + mc') (n + ms') pc env q) (kk : ∀ v h', Qc (.inl v) h' → zW X Q h' (k + mc') (n + ms') (pc + 3) env (v.toList ++ st)) : zW X Q h k n pc env stk :=
  let ⟨h1, host, h2, h3⟩ := cw; z_callSN (fs := fs) K hM h1.1 h1.2.1 h1.2.2.1 h1.2.2.2.1 h1.2.2.2.2 h2 h3 hna hstk hd hk hn hcat dd kx kk
def zcVW (own : String) (idx : Nat) (C : String) (h9 : List (Nat × Nat × Nat × Nat)) (z : MethodName) (bytes : ByteArray) (maxL : Nat) (rt : Option FieldType) (na : Nat) : Prop := (Cond.codeWith z bytes maxL rt h9 ∈ lw_all ∧ Cond.initialized z.cls ∈ lw_all ∧ (z.cls ≠ "java/lang/invoke/MethodHandle" ∧ z.cls ≠ "java/lang/invoke/VarHandle") ∧ (parseMethodDescriptor z.desc).map (fun d => d.parameters.length) = some na ∧ maxL ≤ 45) ∧ Cond.methodLink own idx z ∈ lw_all ∧ Cond.instanceMethod z ∈ lw_all ∧ Cond.selects C z z ∈ lw_all
theorem z_cVW (K : zK y cc nL ret hh d kc ks X) {idx ci nm : Nat} {C : String} {z : MethodName} {bytes : ByteArray} {maxL : Nat} {rt : Option FieldType} {na d' mc' ms' : Nat} {as fs : List Value} {Qc : zO → zH → Prop} {stk : List Value} {h9 : List (Nat × Nat × Nat × Nat)} (hM : zMet z (wsW_ z bytes maxL rt h9) d' (.ref nm :: as) h Qc mc' ms') (cw : zcVW y.cls idx C h9 z bytes maxL rt na) (hobj : h nm = some (.inr (ci, fs))) (hci : (zcl[ci]?).map (fun q => q.1) = some C)  (hna : as.length = na) (hstk : as.reverse ++ .ref nm :: st = stk) (hd : d' < d) (hk : k + mc' ≤ kc) (hn : n + ms' ≤ ks) (hcat : (st.map fun v => v.category).sum ≤ 8)
    (dd : decode cc pc = .ok (.invokevirtual idx, 3)) (kx : ∀ q h', Qc (.inr q) h' → zT X Q h' (k + mc') (n + ms') pc env q) (kk : ∀ v h', Qc (.inl v) h' → zW X Q h' (k + mc') (n + ms') (pc + 3) env (v.toList ++ st)) : zW X Q h k n pc env stk :=
  z_callVW K hM cw.1.1 cw.1.2.1 cw.1.2.2.1 cw.1.2.2.2.1 cw.1.2.2.2.2 cw.2.1 cw.2.2.1 cw.2.2.2 hobj hci hna hstk hd hk hn hcat dd kx kk
def zcSW (own : String) (idx : Nat) (h9 : List (Nat × Nat × Nat × Nat)) (z : MethodName) (bytes : ByteArray) (maxL : Nat) (rt : Option FieldType) (na : Nat) : Prop := (Cond.codeWith z bytes maxL rt h9 ∈ lw_all ∧ Cond.initialized z.cls ∈ lw_all ∧ (z.cls ≠ "java/lang/invoke/MethodHandle" ∧ z.cls ≠ "java/lang/invoke/VarHandle") ∧ (parseMethodDescriptor z.desc).map (fun d => d.parameters.length) = some na ∧ maxL ≤ 45) ∧ Cond.methodLink own idx z ∈ lw_all ∧ Cond.static z ∈ lw_all
theorem z_cSW (K : zK y cc nL ret hh d kc ks X) {idx : Nat} {z : MethodName} {bytes : ByteArray} {maxL : Nat} {rt : Option FieldType} {na d' mc' ms' : Nat} {as fs : List Value} {Qc : zO → zH → Prop} {stk : List Value} {h9 : List (Nat × Nat × Nat × Nat)} (hM : zMet z (wsW_ z bytes maxL rt h9) d' (as) h Qc mc' ms') (cw : zcSW y.cls idx h9 z bytes maxL rt na) (hna : as.length = na) (hstk : as.reverse ++ st = stk) (hd : d' < d) (hk : k + mc' ≤ kc) (hn : n + ms' ≤ ks) (hcat : (st.map fun v => v.category).sum ≤ 8)
    (dd : decode cc pc = .ok (.invokestatic idx, 3)) (kx : ∀ q h', Qc (.inr q) h' → zT X Q h' (k + mc') (n + ms') pc env q) (kk : ∀ v h', Qc (.inl v) h' → zW X Q h' (k + mc') (n + ms') (pc + 3) env (v.toList ++ st)) : zW X Q h k n pc env stk :=
  z_callSW (fs := fs) K hM cw.1.1 cw.1.2.1 cw.1.2.2.1 cw.1.2.2.2.1 cw.1.2.2.2.2 cw.2.1 cw.2.2 hna hstk hd hk hn hcat dd kx kk
def zcVU (own : String) (idx : Nat) (C : String) (z : MethodName) (bytes : ByteArray) (maxL : Nat) (rt : Option FieldType) (na : Nat) : Prop := (Cond.code z bytes maxL rt ∈ lw_all ∧ Cond.initialized z.cls ∈ lw_all ∧ (z.cls ≠ "java/lang/invoke/MethodHandle" ∧ z.cls ≠ "java/lang/invoke/VarHandle") ∧ (parseMethodDescriptor z.desc).map (fun d => d.parameters.length) = some na ∧ maxL ≤ 45) ∧ ∃ (x : MethodName) (owner : String), (parseMethodDescriptor x.desc).map (fun d => d.parameters.length) = some na ∧ Cond.methodLink own idx x ∈ lw_all ∧ Cond.sameMethod x.cls owner x.name x.desc ∈ lw_all ∧ z = ⟨owner, x.name, x.desc⟩ ∧ Cond.selects C x z ∈ lw_all ∧ Cond.instanceMethod z ∈ lw_all
theorem z_cVU (K : zK y cc nL ret hh d kc ks X) {idx ci nm : Nat} {C : String} {z : MethodName} {bytes : ByteArray} {maxL : Nat} {rt : Option FieldType} {na d' mc' ms' : Nat} {as fs : List Value} {Qc : zO → zH → Prop} {stk : List Value} (hM : zMet z (ws_ z bytes maxL rt) d' (.ref nm :: as) h Qc mc' ms') (cw : zcVU y.cls idx C z bytes maxL rt na) (hobj : h nm = some (.inr (ci, fs))) (hci : (zcl[ci]?).map (fun q => q.1) = some C)  (hna : as.length = na) (hstk : as.reverse ++ .ref nm :: st = stk) (hd : d' < d) (hk : k + mc' ≤ kc) (hn : n + ms' ≤ ks) (hcat : (st.map fun v => v.category).sum ≤ 8)
    (dd : decode cc pc = .ok (.invokevirtual idx, 3)) (kx : ∀ q h', Qc (.inr q) h' → zT X Q h' (k + mc') (n + ms') pc env q) (kk : ∀ v h', Qc (.inl v) h' → zW X Q h' (k + mc') (n + ms') (pc + 3) env (v.toList ++ st)) : zW X Q h k n pc env stk :=
  let ⟨h1, x, owner, h0, h2, h3, h4, h5, h6⟩ := cw; z_callVU K hM h1.1 h1.2.1 h1.2.2.1 h0 h1.2.2.2.2 h2 h3 h4 h5 h6 hobj hci hna hstk hd hk hn hcat dd kx kk
/-- it answers v and leaves the heap h -/
def zRet (v : Value) (h : zH) : zO → zH → Prop := fun o h' => o = .inl (some v) ∧ h' = h
/-- it leaves the heap h -/
def zVd (h : zH) : zO → zH → Prop := fun o h' => o = .inl none ∧ h' = h
theorem zrX {v : Value} {h1 : zH} : ∀ q h', zRet v h1 (.inr q) h' → zT X Q h' k n pc env q := fun _ _ e => nomatch e.1
theorem zvX {h1 : zH} : ∀ q h', zVd h1 (.inr q) h' → zT X Q h' k n pc env q := fun _ _ e => nomatch e.1
theorem zrK {v : Value} {h1 : zH} (kk : zW X Q h1 k n pc env (v :: st)) : ∀ v' h', zRet v h1 (.inl v') h' → zW X Q h' k n pc env (v'.toList ++ st) := fun v' h' e => by
  obtain ⟨e1, e2⟩ := e
  cases e1
  subst e2
  exact kk
theorem zvK {h1 : zH} (kk : zW X Q h1 k n pc env st) : ∀ v' h', zVd h1 (.inl v') h' → zW X Q h' k n pc env (v'.toList ++ st) := fun v' h' e => by
  obtain ⟨e1, e2⟩ := e
  cases e1
  subst e2
  exact kk
end ZC3
