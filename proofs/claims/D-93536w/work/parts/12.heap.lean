/-! ===== rows of fields, arrays, answers (printed by tools/genheap.py) ===== -/
/-- the types of the classes' fields -/
def zfty (ci : Nat) : Nat → FieldType := match ci with
  | 0 => tyX4
  | 1 => tyX1
  | 2 => tyX2
  | 3 => tyX3
  | 4 => tyX5
  | 5 => tyX6
  | 6 => tyX7
  | 7 => tyX8
  | 8 => tyX9
  | 9 => tyX10
  | 10 => tyX11
  | 11 => tyX12
  | 12 => tyX13
  | 13 => tyX14
  | 14 => tyX15
  | 15 => tyX16
  | 16 => tyX17
  | 17 => tyX18
  | 18 => tyJ2
  | 19 => tyJ7
  | 20 => tyJ8
  | 21 => tyJ21
  | 22 => tyJ13
  | 23 => tyJ14
  | 24 => tyJ15
  | 25 => tyJ19
  | _ => fun _ => .int
theorem zcl_ok {ci : Nat} {q : vw_C} (h : zcl[ci]? = some q) : (∀ w ∈ u_ws q.1 q.2.1 q.2.2, w ∈ lw_all) ∧ (∀ k, k < q.2.2 → parseFieldDescriptor (q.2.1 k).2.2.1 = some (zfty ci k)) ∧ ∀ a, a < q.2.2 → ∀ b, b < q.2.2 → a ≠ b → (q.2.1 a).2.1 ≠ (q.2.1 b).2.1 := by
  match ci, h with
  | 0, h => cases h; exact ⟨in_X4, tyX4_ok, nmX4⟩
  | 1, h => cases h; exact ⟨in_X1, tyX1_ok, nmX1⟩
  | 2, h => cases h; exact ⟨in_X2, tyX2_ok, nmX2⟩
  | 3, h => cases h; exact ⟨in_X3, tyX3_ok, nmX3⟩
  | 4, h => cases h; exact ⟨in_X5, tyX5_ok, nmX5⟩
  | 5, h => cases h; exact ⟨in_X6, tyX6_ok, nmX6⟩
  | 6, h => cases h; exact ⟨in_X7, tyX7_ok, nmX7⟩
  | 7, h => cases h; exact ⟨in_X8, tyX8_ok, nmX8⟩
  | 8, h => cases h; exact ⟨in_X9, tyX9_ok, nmX9⟩
  | 9, h => cases h; exact ⟨in_X10, tyX10_ok, nmX10⟩
  | 10, h => cases h; exact ⟨in_X11, tyX11_ok, nmX11⟩
  | 11, h => cases h; exact ⟨in_X12, tyX12_ok, nmX12⟩
  | 12, h => cases h; exact ⟨in_X13, tyX13_ok, nmX13⟩
  | 13, h => cases h; exact ⟨in_X14, tyX14_ok, nmX14⟩
  | 14, h => cases h; exact ⟨in_X15, tyX15_ok, nmX15⟩
  | 15, h => cases h; exact ⟨in_X16, tyX16_ok, nmX16⟩
  | 16, h => cases h; exact ⟨in_X17, tyX17_ok, nmX17⟩
  | 17, h => cases h; exact ⟨in_X18, tyX18_ok, nmX18⟩
  | 18, h => cases h; exact ⟨in_J2, tyJ2_ok, nmJ2⟩
  | 19, h => cases h; exact ⟨in_J7, tyJ7_ok, nmJ7⟩
  | 20, h => cases h; exact ⟨in_J8, tyJ8_ok, nmJ8⟩
  | 21, h => cases h; exact ⟨in_J21, tyJ21_ok, nmJ21⟩
  | 22, h => cases h; exact ⟨in_J13, tyJ13_ok, nmJ13⟩
  | 23, h => cases h; exact ⟨in_J14, tyJ14_ok, nmJ14⟩
  | 24, h => cases h; exact ⟨in_J15, tyJ15_ok, nmJ15⟩
  | 25, h => cases h; exact ⟨in_J19, tyJ19_ok, nmJ19⟩
  | j + 26, h => cases h
/-- the field j of the class ci, by the link idx of the class own -/
def zfd (own : String) (idx ci j : Nat) : Prop := ∃ q : vw_C, zcl[ci]? = some q ∧ j < q.2.2 ∧
  (Cond.fieldLink own idx (q.2.1 j).1 (q.2.1 j).2.1 (q.2.1 j).2.2.1 ∈ lw_all ∨ (∃ host, Cond.fieldLinkNest own idx (q.2.1 j).1 (q.2.1 j).2.1 (q.2.1 j).2.2.1 host ∈ lw_tbl) ∨ ∃ ref, Cond.fieldLink own idx ref (q.2.1 j).2.1 (q.2.1 j).2.2.1 ∈ lw_all ∧ Cond.sameField ref (q.2.1 j).1 (q.2.1 j).2.1 (q.2.1 j).2.2.1 ∈ lw_all)
theorem zobj {D : va_G} {dA : Nat → ClassId} {r : zR} {ci a : Nat} {fs : List Value} {H : Heap} (h : zc D dA r (.inr (ci, fs)) a H) {q : vw_C} (hq : zcl[ci]? = some q) : ∃ fs', zvs r fs fs' ∧ va_at D zcl (a, .inr (ci, fs')) H := by
  rcases h with h | h
  · have hl := (List.getElem?_eq_some_iff.mp hq).1
    have : zcl.length = 26 := rfl
    omega
  · obtain ⟨fs', h1, h2, -⟩ := h
    exact ⟨fs', h1, h2⟩
theorem zS.obj {D : va_G} {dA : Nat → ClassId} {r : zR} {h : zH} {nm ci a : Nat} {fs : List Value} {H : Heap} (hS : zS D dA r h H) (hn : h nm = some (.inr (ci, fs))) (ha : r nm = some a) {q : vw_C} (hq : zcl[ci]? = some q) : ∃ (fs' : List Value) (cell : Cell), zvs r fs fs' ∧ H[a]? = some cell ∧ cell.cls = D.1 ci ∧ cell.vm.isStatics = false ∧ cell.vm ≠ .unknown ∧ ∀ k, k < q.2.2 → cell.slots[D.2 ci k]? = some (vp_V fs' k) := by
  rcases hS.2.2.2 nm _ a hn ha with z | ⟨-, cell, z1, z2, z3, ⟨v, z4, z5, z6⟩ | ⟨ty, f, z4, -⟩⟩
  · obtain ⟨fs', h1, r9, h2, cell, q1, q2, q3, q4⟩ := zobj z hq
    cases Option.some.inj (h2.symm.trans hq)
    exact ⟨fs', cell, h1, q1, q2, by rw [q3]; rfl, by rw [q3]; exact fun e => (by cases e), q4⟩
  · cases z4
    cases hq
    refine ⟨[.int v], cell, zvs.i rfl, z1, z5, z2, z3, fun k hk => ?_⟩
    have hk : k < 1 := hk
    obtain rfl : k = 0 := by omega
    exact z6
  · cases z4
theorem zmon {D : va_G} {dA : Nat → ClassId} {r : zR} {ci a : Nat} {fs : List Value} {H : Heap} (h : zc D dA r (.inr (ci, fs)) a H) {q : vw_C} (hq : zcl[ci]? = some q) (hk : zmk ci = true) : zmo a H := by
  rcases h with h | h
  · have hl := (List.getElem?_eq_some_iff.mp hq).1
    have : zcl.length = 26 := rfl
    omega
  · obtain ⟨fs', -, -, h3⟩ := h
    exact h3 hk
theorem zarr {D : va_G} {dA : Nat → ClassId} {r : zR} {ty n a : Nat} {H : Heap} {f : Nat → Int32} (h : zc D dA r (.inl (ty, n, .inl f)) a H) : va_P D zcl [(a, .inl (dA ty, n, .inl f))] H := by
  intro k q hk
  match k, hk with
  | 0, hk => cases hk; exact h
  | k + 1, hk => cases hk
section ZH1
variable {y : MethodName} {cc : ByteArray} {nL : Nat} {ret : Option FieldType} {hh : List (Nat × Nat × Nat × Nat)} {d kc ks : Nat} {X : zX} {Q : zO → zH → Prop} {h : zH} {k n pc : Nat} {env : List (Nat × Value)} {st : List Value}
theorem z_get (K : zK y cc nL ret hh d kc ks X) {idx ci j nm : Nat} {fs : List Value} {v : Value} (f : zfd y.cls idx ci j) (hn : h nm = some (.inr (ci, fs))) (hv : fs[j]? = some v) (dd : decode cc pc = .ok (.getfield idx, 3))
    (kk : zW X Q h k n (pc + 3) env (v :: st)) : zW X Q h k n pc env (.ref nm :: st) := by
  obtain ⟨p, l, e, R, s, m, args, below, meth, c, D, dA, r0, A, mc, ms⟩ := X
  obtain ⟨hx, hb, hml, hrt, hlk, hnm, hown, hts, hN, hNc, hK, hA0, hfl, hR, hmc, hms, hG, hT⟩ := K
  intro r H locs ls st' g0 g1 g2 g3 g4 g5
  obtain ⟨a, _, gr, rfl, g6⟩ := zvs_r g5
  obtain ⟨⟨C, T, N⟩, hq, hj, hlink⟩ := f
  obtain ⟨fs', cell, hfs, q1, q2, q3, q4, q5⟩ := g1.obj hn gr hq
  obtain ⟨w, hw, hvw⟩ := hfs.at hv
  have hin := (zcl_ok hq).1
  obtain ⟨hS, hfc, kC, hkC, hkind⟩ := hK.1 ci _ hq
  obtain ⟨cf, kf, fi, f, hi, hsl⟩ := hS j hj
  have hsv : cell.slots[f.slot]? = some w := by rw [hsl, q5 j hj]; simp [vp_V, hw]
  rcases hlink with hl | ⟨host, hl⟩ | ⟨ref, hl, hsm⟩
  · exact W.getf hx hb hown (hts _ hl) hi (u_facts hfc hkC (u_lays hts hin hj) hi).1 q1 q4 (v := w) hsv rfl rfl dd (kk r H locs ls _ g0 g1 g2 g3 g4 (zvs.c hvw g6))
  · exact va_Wgetf hx hb hown (va_Nw.use rfl (hN _ hl rfl)) hi (u_facts hfc hkC (u_lays hts hin hj) hi).1 q1 q4 (v := w) hsv rfl rfl dd (kk r H locs ls _ g0 g1 g2 g3 g4 (zvs.c hvw g6))
  · exact W.getf hx hb hown (hts _ hl) (u_same (hts _ hsm) _ hi) (u_facts hfc hkC (u_lays hts hin hj) hi).1 q1 q4 (v := w) hsv rfl rfl dd (kk r H locs ls _ g0 g1 g2 g3 g4 (zvs.c hvw g6))
/-- a store to a field: not final, or in the constructor of the class that declares it -/
def zmay (y : MethodName) (ci j : Nat) : Prop := ∃ q : vw_C, zcl[ci]? = some q ∧ ((q.2.1 j).2.2.2 = false ∨ ((q.2.1 j).2.2.2 = true ∧ y.name = "<init>" ∧ (q.2.1 j).1 = y.cls))
theorem z_put (K : zK y cc nL ret hh d kc ks X) {idx ci j nm : Nat} {fs : List Value} {v : Value} (f : zfd y.cls idx ci j) (hm : zmay y ci j) (hn : h nm = some (.inr (ci, fs))) (h8 : 1000 ≤ nm) (hl : j < fs.length) (hfit : ∀ r w, zv r v w → narrow (zfty ci j) w = w ∧ fits (zfty ci j) w = true) (dd : decode cc pc = .ok (.putfield idx, 3))
    (kk : zW X Q (zup h nm (.inr (ci, fs.set j v))) k n (pc + 3) env st) : zW X Q h k n pc env (v :: .ref nm :: st) := by
  obtain ⟨p, l, e, R, s, m, args, below, meth, c, D, dA, r0, A, mc, ms⟩ := X
  obtain ⟨hx, hb, hml, hrt, hlk, hnm, hown, hts, hN, hNc, hK, hA0, hfl, hR, hmc, hms, hG, hT⟩ := K
  intro r H locs ls st' g0 g1 g2 g3 g4 g5
  obtain ⟨w, _, rfl, hvw, g6⟩ := zvs_c g5
  obtain ⟨a, m9, gr, rfl, g7⟩ := zvs_r g6
  obtain ⟨⟨C, T, N⟩, hq, hj, hlink⟩ := f
  obtain ⟨q2, hq2, hm⟩ := hm
  have e2 : q2 = (C, T, N) := Option.some.inj (hq2.symm.trans hq)
  subst e2
  have hzc := g1.at hn gr
  obtain ⟨fs', hfs, hat⟩ := zobj hzc hq
  obtain ⟨hin, hty, hnmq⟩ := zcl_ok hq
  have hlen : j < fs'.length := by rw [hfs.len]; exact hl
  obtain ⟨hf1, hf2⟩ := hfit r w hvw
  have hap := va_apart (own := y.cls) hts hin (zfty ci) hty hnmq hK hq
  obtain ⟨r9, h1, cell, q1, q2, q3, q4⟩ := hat
  have hr9 : r9 = (C, T, N) := Option.some.inj (h1.symm.trans hq)
  subst hr9
  obtain ⟨hS, hfc, kC, hkC, hkind⟩ := hK.1 ci _ hq
  obtain ⟨cf, kf, fi, f, hi, hsl⟩ := hS j hj
  have hlay := hts _ (hin _ (u_in_lay hj))
  unfold u_lay at hlay
  have hst := (u_facts hfc hkC (u_lays hts hin hj) hi).1
  have fin : ∀ (H' : Heap), H'[a]? = some (cell.setSlot f.slot w) → H'.size = H.size → (∀ q, q ≠ a → H'[q]? = H[q]?) → W p l e R s m args below meth c H' (locs ++ [⟨a, f.slot⟩]) k n (zM (p, l, e, R, s, m, args, below, meth, c, D, dA, r0, A, mc, ms) Q) (F0 m (pc + 3) ls m9) := by
    intro H' e1 e2 e3
    rw [hsl] at e1 ⊢
    refine kk r H' _ ls _ g0 (g1.put hn h8 gr ?_ e2 e3) g2 (g3.put e2 e3 (g2.1 nm a h8 gr)) g4 g7
    exact Or.inr ⟨fs'.set j w, hfs.set hvw, ⟨_, hq, t_OB.to (V := updV (vp_V fs') j w) ⟨_, e1, q2, q3, t_set q4 hap hj w⟩ (fun i _ => vp_updV_set hlen w i)⟩, fun hk9 => by
      obtain ⟨cell9, w1, w2, w3⟩ := zmon hzc hq hk9
      cases Option.some.inj (w1.symm.trans q1)
      exact ⟨_, e1, w2, w3⟩⟩
  rcases hm with hm | ⟨hm1, hm2, hm3⟩
  · rw [if_neg (by show ¬ (T j).2.2.2 = true; rw [show (T j).2.2.2 = false from hm]; decide)] at hlay
    have h6 := u_store hfc hkC hkind hlay hi (hty j hj) hf1 hf2
    rcases hlink with hl | ⟨host, hl⟩ | ⟨ref, hl, hsm⟩
    · exact W.putK hx hb (f := f) ⟨hown, hts _ hl, ⟨_, _, _, hi⟩, hst⟩ (by rw [q2]; exact h6) q1 q3 (by rw [hsl]; exact k2_hasslot (q4 j hj)) rfl rfl dd fin
    · exact va_WputK hx hb (f := f) hown (va_Nw.use rfl (hN _ hl rfl)) hi hst (by rw [q2]; exact h6) q1 q3 (by rw [hsl]; exact k2_hasslot (q4 j hj)) rfl rfl dd fin
    · exact W.putK hx hb (f := f) ⟨hown, hts _ hl, ⟨_, _, _, u_same (hts _ hsm) _ hi⟩, hst⟩ (by rw [q2]; exact h6) q1 q3 (by rw [hsl]; exact k2_hasslot (q4 j hj)) rfl rfl dd fin
  · rw [if_pos hm1] at hlay
    have hcf : m.cls = cf := by
      obtain ⟨_, _, c', _, _, _, -, -, hf', -, -, -, hown2, -⟩ := Cond.laysFinal_spec hlay
      have e1 : c' = cf := by have := hi.symm.trans hf'; simp at this; exact this.1.symm
      rw [show (T j).1 = y.cls from hm3] at hown2
      rw [← e1]; exact Option.some.inj (hown.symm.trans hown2)
    have h6 := u_fits hfc hkC hkind (Or.inr hlay) hi (hty j hj) hf1 hf2
    rcases hlink with hl | ⟨host, hl⟩ | ⟨ref, hl, hsm⟩
    · exact W.putFinK hx hb hown (hts _ hl) hi hst hcf (hnm.trans hm2) (by rw [q2]; exact h6) q1 q3 (by rw [hsl]; exact k2_hasslot (q4 j hj)) rfl rfl dd fin
    · exact va_Wputf hx hb hown (va_Nw.use rfl (hN _ hl rfl)) hi hst (Or.inr ⟨hcf, hnm.trans hm2⟩) q1 (by rw [q3]; exact fun h => by cases h) (by rw [hsl]; exact k2_hasslot (q4 j hj)) h6.1 (by rw [q2, q3]; exact h6.2) rfl rfl dd (fin _ (by simp [Array.getElem?_setIfInBounds, (Array.getElem?_eq_some_iff.mp q1).1]) (by simp) (fun q hq => by simp [Array.getElem?_setIfInBounds, Ne.symm hq]))
    · exact W.putFinK hx hb hown (hts _ hl) (u_same (hts _ hsm) _ hi) hst hcf (hnm.trans hm2) (by rw [q2]; exact h6) q1 q3 (by rw [hsl]; exact k2_hasslot (q4 j hj)) rfl rfl dd fin
theorem zfit_i {r : zR} {x : Int32} {w : Value} (h : zv r (.int x) w) : narrow .int w = w ∧ fits .int w = true := by
  have h : w = .int x := h
  subst h
  exact ⟨rfl, rfl⟩
theorem z_iald (K : zK y cc nL ret hh d kc ks X) {nm N : Nat} {f : Nat → Int32} {i : Int32} (hn : h nm = some (.inl (0, N, .inl f))) (hin : vp_in i N) (dd : decode cc pc = .ok (.iaload, 1))
    (kk : zW X Q h k n (pc + 1) env (.int (f i.toNatClampNeg) :: st)) : zW X Q h k n pc env (.int i :: .ref nm :: st) := by
  obtain ⟨p, l, e, R, s, m, args, below, meth, c, D, dA, r0, A, mc, ms⟩ := X
  obtain ⟨hx, hb, hml, hrt, hlk, hnm, hown, hts, hN, hNc, hK, hA0, hfl, hR, hmc, hms, hG, hT⟩ := K
  intro r H locs ls st' g0 g1 g2 g3 g4 g5
  obtain ⟨_, rfl, g6⟩ := zvs_i g5
  obtain ⟨a, _, gr, rfl, g7⟩ := zvs_r g6
  exact va_iald hx hb hK (zarr (g1.at hn gr)) 0 0 rfl rfl hin dd (kk r H locs ls _ g0 g1 g2 g3 g4 g7.i)
theorem z_iast (K : zK y cc nL ret hh d kc ks X) {nm N : Nat} {f : Nat → Int32} {i x : Int32} (hn : h nm = some (.inl (0, N, .inl f))) (h8 : 1000 ≤ nm) (hin : vp_in i N) (dd : decode cc pc = .ok (.iastore, 1))
    (kk : zW X Q (zup h nm (.inl (0, N, .inl (upd f i.toNatClampNeg x)))) k n (pc + 1) env st) : zW X Q h k n pc env (.int x :: .int i :: .ref nm :: st) := by
  obtain ⟨p, l, e, R, s, m, args, below, meth, c, D, dA, r0, A, mc, ms⟩ := X
  obtain ⟨hx, hb, hml, hrt, hlk, hnm, hown, hts, hN, hNc, hK, hA0, hfl, hR, hmc, hms, hG, hT⟩ := K
  intro r H locs ls st' g0 g1 g2 g3 g4 g5
  obtain ⟨_, rfl, g6⟩ := zvs_i g5
  obtain ⟨_, rfl, g7⟩ := zvs_i g6
  obtain ⟨a, _, gr, rfl, g8⟩ := zvs_r g7
  have hat : H[a]? = some (vp_cell (dA 0) (N, .inl f)) := g1.at hn gr
  refine W.iast hx hb hat ((hK.2 0 _ rfl).1 N (fun j => .int (f j))) (fun q => by cases q) (by show ¬ (i < 0 ∨ (arrV _ _ _).slots.size ≤ _); rw [arrV_size]; exact hin) rfl rfl dd fun H1 e z oq => ?_
  refine kk r H1 _ ls _ g0 (g1.put hn h8 gr ?_ z oq) g2 (g3.put z oq (g2.1 nm a h8 gr)) g4 g8
  show H1[a]? = some (vp_cell _ _)
  rw [e]
  rw [vp_cell_i, vp_cell_i, arrV_store]
  congr 2
  funext q
  by_cases hq : q = i.toNatClampNeg
  · subst hq
    simp [updV, upd]
    try rfl
  · simp [updV, upd, hq]
theorem z_bald (K : zK y cc nL ret hh d kc ks X) {nm N : Nat} {f : Nat → Int32} {i : Int32} (hn : h nm = some (.inl (1, N, .inl f))) (hin : vp_in i N) (dd : decode cc pc = .ok (.baload, 1))
    (kk : zW X Q h k n (pc + 1) env (.int (f i.toNatClampNeg) :: st)) : zW X Q h k n pc env (.int i :: .ref nm :: st) := by
  obtain ⟨p, l, e, R, s, m, args, below, meth, c, D, dA, r0, A, mc, ms⟩ := X
  obtain ⟨hx, hb, hml, hrt, hlk, hnm, hown, hts, hN, hNc, hK, hA0, hfl, hR, hmc, hms, hG, hT⟩ := K
  intro r H locs ls st' g0 g1 g2 g3 g4 g5
  obtain ⟨_, rfl, g6⟩ := zvs_i g5
  obtain ⟨a, _, gr, rfl, g7⟩ := zvs_r g6
  exact va_bald hx hb hK (zarr (g1.at hn gr)) 0 1 rfl rfl hin dd (kk r H locs ls _ g0 g1 g2 g3 g4 g7.i)
theorem z_bast (K : zK y cc nL ret hh d kc ks X) {nm N : Nat} {f : Nat → Int32} {i x : Int32} (hn : h nm = some (.inl (1, N, .inl f))) (h8 : 1000 ≤ nm) (hin : vp_in i N) (dd : decode cc pc = .ok (.bastore, 1))
    (kk : zW X Q (zup h nm (.inl (1, N, .inl (upd f i.toNatClampNeg (vp_nar .byte x))))) k n (pc + 1) env st) : zW X Q h k n pc env (.int x :: .int i :: .ref nm :: st) := by
  obtain ⟨p, l, e, R, s, m, args, below, meth, c, D, dA, r0, A, mc, ms⟩ := X
  obtain ⟨hx, hb, hml, hrt, hlk, hnm, hown, hts, hN, hNc, hK, hA0, hfl, hR, hmc, hms, hG, hT⟩ := K
  intro r H locs ls st' g0 g1 g2 g3 g4 g5
  obtain ⟨_, rfl, g6⟩ := zvs_i g5
  obtain ⟨_, rfl, g7⟩ := zvs_i g6
  obtain ⟨a, _, gr, rfl, g8⟩ := zvs_r g7
  have hat : H[a]? = some (vp_cell (dA 1) (N, .inl f)) := g1.at hn gr
  refine W.bast hx hb hat ((hK.2 1 _ rfl).1 N (fun j => .int (f j))) (fun q => by cases q) (by show ¬ (i < 0 ∨ (arrV _ _ _).slots.size ≤ _); rw [arrV_size]; exact hin) rfl rfl dd fun H1 e z oq => ?_
  refine kk r H1 _ ls _ g0 (g1.put hn h8 gr ?_ z oq) g2 (g3.put z oq (g2.1 nm a h8 gr)) g4 g8
  show H1[a]? = some (vp_cell _ _)
  rw [e]
  rw [vp_cell_i, vp_cell_i, arrV_store]
  congr 2
  funext q
  by_cases hq : q = i.toNatClampNeg
  · subst hq
    simp [updV, upd, vp_nar]
    try rfl
  · simp [updV, upd, hq]
theorem z_zald (K : zK y cc nL ret hh d kc ks X) {nm N : Nat} {f : Nat → Int32} {i : Int32} (hn : h nm = some (.inl (2, N, .inl f))) (hin : vp_in i N) (dd : decode cc pc = .ok (.baload, 1))
    (kk : zW X Q h k n (pc + 1) env (.int (f i.toNatClampNeg) :: st)) : zW X Q h k n pc env (.int i :: .ref nm :: st) := by
  obtain ⟨p, l, e, R, s, m, args, below, meth, c, D, dA, r0, A, mc, ms⟩ := X
  obtain ⟨hx, hb, hml, hrt, hlk, hnm, hown, hts, hN, hNc, hK, hA0, hfl, hR, hmc, hms, hG, hT⟩ := K
  intro r H locs ls st' g0 g1 g2 g3 g4 g5
  obtain ⟨_, rfl, g6⟩ := zvs_i g5
  obtain ⟨a, _, gr, rfl, g7⟩ := zvs_r g6
  exact va_zald hx hb hK (zarr (g1.at hn gr)) 0 2 rfl rfl hin dd (kk r H locs ls _ g0 g1 g2 g3 g4 g7.i)
theorem z_zast (K : zK y cc nL ret hh d kc ks X) {nm N : Nat} {f : Nat → Int32} {i x : Int32} (hn : h nm = some (.inl (2, N, .inl f))) (h8 : 1000 ≤ nm) (hin : vp_in i N) (dd : decode cc pc = .ok (.bastore, 1))
    (kk : zW X Q (zup h nm (.inl (2, N, .inl (upd f i.toNatClampNeg (vp_nar .boolean x))))) k n (pc + 1) env st) : zW X Q h k n pc env (.int x :: .int i :: .ref nm :: st) := by
  obtain ⟨p, l, e, R, s, m, args, below, meth, c, D, dA, r0, A, mc, ms⟩ := X
  obtain ⟨hx, hb, hml, hrt, hlk, hnm, hown, hts, hN, hNc, hK, hA0, hfl, hR, hmc, hms, hG, hT⟩ := K
  intro r H locs ls st' g0 g1 g2 g3 g4 g5
  obtain ⟨_, rfl, g6⟩ := zvs_i g5
  obtain ⟨_, rfl, g7⟩ := zvs_i g6
  obtain ⟨a, _, gr, rfl, g8⟩ := zvs_r g7
  have hat : H[a]? = some (vp_cell (dA 2) (N, .inl f)) := g1.at hn gr
  refine W.zast hx hb hat ((hK.2 2 _ rfl).1 N (fun j => .int (f j))) (fun q => by cases q) (by show ¬ (i < 0 ∨ (arrV _ _ _).slots.size ≤ _); rw [arrV_size]; exact hin) rfl rfl dd fun H1 e z oq => ?_
  refine kk r H1 _ ls _ g0 (g1.put hn h8 gr ?_ z oq) g2 (g3.put z oq (g2.1 nm a h8 gr)) g4 g8
  show H1[a]? = some (vp_cell _ _)
  rw [e]
  rw [vp_cell_i, vp_cell_i, arrV_store]
  congr 2
  funext q
  by_cases hq : q = i.toNatClampNeg
  · subst hq
    simp [updV, upd, vp_nar]
    try rfl
  · simp [updV, upd, hq]
theorem z_cald (K : zK y cc nL ret hh d kc ks X) {nm N : Nat} {f : Nat → Int32} {i : Int32} (hn : h nm = some (.inl (3, N, .inl f))) (hin : vp_in i N) (dd : decode cc pc = .ok (.caload, 1))
    (kk : zW X Q h k n (pc + 1) env (.int (f i.toNatClampNeg) :: st)) : zW X Q h k n pc env (.int i :: .ref nm :: st) := by
  obtain ⟨p, l, e, R, s, m, args, below, meth, c, D, dA, r0, A, mc, ms⟩ := X
  obtain ⟨hx, hb, hml, hrt, hlk, hnm, hown, hts, hN, hNc, hK, hA0, hfl, hR, hmc, hms, hG, hT⟩ := K
  intro r H locs ls st' g0 g1 g2 g3 g4 g5
  obtain ⟨_, rfl, g6⟩ := zvs_i g5
  obtain ⟨a, _, gr, rfl, g7⟩ := zvs_r g6
  exact va_cald hx hb hK (zarr (g1.at hn gr)) 0 3 rfl rfl hin dd (kk r H locs ls _ g0 g1 g2 g3 g4 g7.i)
theorem z_cast (K : zK y cc nL ret hh d kc ks X) {nm N : Nat} {f : Nat → Int32} {i x : Int32} (hn : h nm = some (.inl (3, N, .inl f))) (h8 : 1000 ≤ nm) (hin : vp_in i N) (dd : decode cc pc = .ok (.castore, 1))
    (kk : zW X Q (zup h nm (.inl (3, N, .inl (upd f i.toNatClampNeg (vp_nar .char x))))) k n (pc + 1) env st) : zW X Q h k n pc env (.int x :: .int i :: .ref nm :: st) := by
  obtain ⟨p, l, e, R, s, m, args, below, meth, c, D, dA, r0, A, mc, ms⟩ := X
  obtain ⟨hx, hb, hml, hrt, hlk, hnm, hown, hts, hN, hNc, hK, hA0, hfl, hR, hmc, hms, hG, hT⟩ := K
  intro r H locs ls st' g0 g1 g2 g3 g4 g5
  obtain ⟨_, rfl, g6⟩ := zvs_i g5
  obtain ⟨_, rfl, g7⟩ := zvs_i g6
  obtain ⟨a, _, gr, rfl, g8⟩ := zvs_r g7
  have hat : H[a]? = some (vp_cell (dA 3) (N, .inl f)) := g1.at hn gr
  refine W.cast hx hb hat ((hK.2 3 _ rfl).1 N (fun j => .int (f j))) (fun q => by cases q) (by show ¬ (i < 0 ∨ (arrV _ _ _).slots.size ≤ _); rw [arrV_size]; exact hin) rfl rfl dd fun H1 e z oq => ?_
  refine kk r H1 _ ls _ g0 (g1.put hn h8 gr ?_ z oq) g2 (g3.put z oq (g2.1 nm a h8 gr)) g4 g8
  show H1[a]? = some (vp_cell _ _)
  rw [e]
  rw [vp_cell_i, vp_cell_i, arrV_store]
  congr 2
  funext q
  by_cases hq : q = i.toNatClampNeg
  · subst hq
    simp [updV, upd, vp_nar]
    try rfl
  · simp [updV, upd, hq]
theorem z_mono {p : Program} {l : Launch} {e : Env} {R : Room} {s : State} {m : MethodId} {args : Array Value} {below : List Frame} {meth : Method} {c : Code} {H : Heap} {locs : List Loc} {cells slots : Nat} {Q1 Q2 : State → Prop} {g : JFrame} (hq : ∀ t, Q1 t → Q2 t) (kk : W p l e R s m args below meth c H locs cells slots Q1 g) : W p l e R s m args below meth c H locs cells slots Q2 g := fun T hT X => by
  obtain ⟨t, a, b⟩ := kk T hT X
  exact ⟨t, a, hq t b⟩
theorem z_ended {p : Program} {l : Launch} {e : Env} {R : Room} {s : State} {m : MethodId} {args : Array Value} {below : List Frame} {meth : Method} {c : Code} {D : va_G} {dA : Nat → ClassId} {r0 r : zR} {A : Nat → Prop} {mc ms : Nat} {H : Heap} {locs : List Loc} {v v' : Option Value} {t : State} (g0 : zsb r0 r) (g1 : zS D dA r h H) (g2 : zA A r) (g3 : va_S A s.heap H locs) (hv : zvo r v v') (hq : Q (.inl v) h)
    (b : MQ below (fun _ _ o t => o = .returned v' ∧ t.heap = H) args s mc ms A t) : zM (p, l, e, R, s, m, args, below, meth, c, D, dA, r0, A, mc, ms) Q t := by
  obtain ⟨o, b1, b2, ⟨rfl, b3⟩, L, b4, b5⟩ := b
  exact ⟨_, b1, b2, Or.inl ⟨v, v', r, h, rfl, hv, hq, g0, by rw [b3]; exact g1, g2, g3.F b3, L, b4, b5⟩⟩
theorem z_iret (K : zK y cc nL (some .int) hh d kc ks X) {x : Int32} (hk : k ≤ kc) (hn : n ≤ ks) (hq : Q (.inl (some (.int x))) h) (dd : decode cc pc = .ok (.ireturn, 1)) : zW X Q h k n pc env [.int x] := by
  obtain ⟨p, l, e, R, s, m, args, below, meth, c, D, dA, r0, A, mc, ms⟩ := X
  obtain ⟨hx, hb, hml, hrt, hlk, hnm, hown, hts, hN, hNc, hK, hA0, hfl, hR, hmc, hms, hG, hT⟩ := K
  intro r H locs ls st' g0 g1 g2 g3 g4 g5
  obtain ⟨_, rfl, g6⟩ := zvs_i g5
  have g6 : _ = [] := g6
  subst g6
  refine W.widen (show k ≤ mc by rw [hmc]; exact hk) (show n ≤ ms by rw [hms]; exact hn) ?_
  exact z_mono (fun t b => z_ended (v := (some (.int x))) g0 g1 g2 g3 ⟨_, rfl, rfl⟩ hq b) (W.iret hx hb hrt (fun t ht hW => ⟨rfl, ht⟩) g3.2.2 dd hlk)
theorem z_zret {ty : FieldType} (K : zK y cc nL (some ty) hh d kc ks X) {x : Int32} (hx9 : narrow ty (.int x) = .int x) (hk : k ≤ kc) (hn : n ≤ ks) (hq : Q (.inl (some (.int x))) h) (dd : decode cc pc = .ok (.ireturn, 1)) : zW X Q h k n pc env [.int x] := by
  obtain ⟨p, l, e, R, s, m, args, below, meth, c, D, dA, r0, A, mc, ms⟩ := X
  obtain ⟨hx, hb, hml, hrt, hlk, hnm, hown, hts, hN, hNc, hK, hA0, hfl, hR, hmc, hms, hG, hT⟩ := K
  intro r H locs ls st' g0 g1 g2 g3 g4 g5
  obtain ⟨_, rfl, g6⟩ := zvs_i g5
  have g6 : _ = [] := g6
  subst g6
  refine W.widen (show k ≤ mc by rw [hmc]; exact hk) (show n ≤ ms by rw [hms]; exact hn) ?_
  exact z_mono (fun t b => z_ended (v := (some (.int x))) g0 g1 g2 g3 ⟨_, rfl, rfl⟩ hq b) (W.zret hx hb hrt hx9 (fun t ht hW => ⟨rfl, ht⟩) g3.2.2 dd hlk)
theorem z_dret (K : zK y cc nL (some .double) hh d kc ks X) {x : UInt64} (hk : k ≤ kc) (hn : n ≤ ks) (hq : Q (.inl (some (.double x))) h) (dd : decode cc pc = .ok (.dreturn, 1)) : zW X Q h k n pc env [.double x] := by
  obtain ⟨p, l, e, R, s, m, args, below, meth, c, D, dA, r0, A, mc, ms⟩ := X
  obtain ⟨hx, hb, hml, hrt, hlk, hnm, hown, hts, hN, hNc, hK, hA0, hfl, hR, hmc, hms, hG, hT⟩ := K
  intro r H locs ls st' g0 g1 g2 g3 g4 g5
  obtain ⟨_, rfl, g6⟩ := zvs_d g5
  have g6 : _ = [] := g6
  subst g6
  refine W.widen (show k ≤ mc by rw [hmc]; exact hk) (show n ≤ ms by rw [hms]; exact hn) ?_
  exact z_mono (fun t b => z_ended (v := (some (.double x))) g0 g1 g2 g3 ⟨_, rfl, rfl⟩ hq b) (W.dret hx hb hrt (fun t ht hW => ⟨rfl, ht⟩) g3.2.2 dd hlk)
theorem z_vret (K : zK y cc nL none hh d kc ks X) (hk : k ≤ kc) (hn : n ≤ ks) (hq : Q (.inl none) h) (dd : decode cc pc = .ok (.return_, 1)) : zW X Q h k n pc env [] := by
  obtain ⟨p, l, e, R, s, m, args, below, meth, c, D, dA, r0, A, mc, ms⟩ := X
  obtain ⟨hx, hb, hml, hrt, hlk, hnm, hown, hts, hN, hNc, hK, hA0, hfl, hR, hmc, hms, hG, hT⟩ := K
  intro r H locs ls st' g0 g1 g2 g3 g4 g5
  have g6 : _ = [] := g5
  subst g6
  refine W.widen (show k ≤ mc by rw [hmc]; exact hk) (show n ≤ ms by rw [hms]; exact hn) ?_
  exact z_mono (fun t b => z_ended (v := none) g0 g1 g2 g3 rfl hq b) (W.vret hx hb hrt (fun t ht hW => ⟨rfl, ht⟩) g3.2.2 dd hlk)
theorem z_aret {rt : FieldType} (K : zK y cc nL (some rt) hh d kc ks X) {v : Value} (hrt9 : (∃ n, rt = .object n) ∨ ∃ t, rt = .array t) (hv : zisr v = true) (hk : k ≤ kc) (hn : n ≤ ks) (hq : Q (.inl (some v)) h) (dd : decode cc pc = .ok (.areturn, 1)) : zW X Q h k n pc env [v] := by
  obtain ⟨p, l, e, R, s, m, args, below, meth, c, D, dA, r0, A, mc, ms⟩ := X
  obtain ⟨hx, hb, hml, hrt, hlk, hnm, hown, hts, hN, hNc, hK, hA0, hfl, hR, hmc, hms, hG, hT⟩ := K
  intro r H locs ls st' g0 g1 g2 g3 g4 g5
  obtain ⟨w, _, rfl, hvw, g6⟩ := zvs_c g5
  have g6 : _ = [] := g6
  subst g6
  refine W.widen (show k ≤ mc by rw [hmc]; exact hk) (show n ≤ ms by rw [hms]; exact hn) ?_
  have hw : w = .null ∨ ∃ a, w = .ref a := by
    cases v with
    | ref a => obtain ⟨b, -, e⟩ := hvw; exact Or.inr ⟨b, e⟩
    | null => exact Or.inl hvw
    | _ => cases hv
  exact z_mono (fun t b => z_ended (v := some v) g0 g1 g2 g3 ⟨_, rfl, hvw⟩ hq b) (W.aret hx hb hrt hrt9 hw (fun t ht hW => ⟨rfl, ht⟩) g3.2.2 dd hlk)
end ZH1
