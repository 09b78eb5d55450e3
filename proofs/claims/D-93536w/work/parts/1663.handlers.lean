/-- a method with handlers, by its body -/
theorem zMet.ofH {hh : List (Nat × Nat × Nat × Nat)} {y : MethodName} {cc : ByteArray} {nL : Nat} {ret : Option FieldType} {d mc ms : Nat} {as : List Value} {h : zH} {Q : zO → zH → Prop} (hy : plainFor y = true) (hsz : (lg_sl as).length ≤ nL)
    (body : ∀ X : zX, zK y cc nL ret hh d mc ms X → zW X Q h 0 0 0 (lv_args 0 as) []) : zMet y (wsW_ y cc nL ret hh) d as h Q mc ms := by
  intro l D dA r0 A as' hfl has
  refine MetFree.of_bodySF (code := cc) (maxLocals := nL) (ret := ret) hy ?_ ?_
  · intro args s m h9 hn
    obtain ⟨m9, meth, c, hn9, h1, h2, h3, h4, -, h5, h6, -⟩ := Cond.codeWith_spec (atoms_spec (ws := wsW_ y cc nL ret hh) h9 _ List.mem_cons_self)
    cases hn.symm.trans hn9
    exact ⟨meth, c, h1, h2, h3, h4, h5, h6⟩
  · intro p e s m args below meth c s₁ B hml hP _
    obtain ⟨rfl, hS, hA, hA0, hK, hN, hNc, hG⟩ := hP
    have hh0 : s₁.heap = s.heap := by rw [B.state]; rfl
    have ht : c.exceptionTable.toList = tableOf hh := vx_table (x := y) B (atoms_spec (ws := wsW_ y cc nL ret hh) B.pre _ List.mem_cons_self)
    have hts := atoms_spec (ws := wsW_ y cc nL ret hh) B.pre
    have hts : ∀ w ∈ lw_all, w.before _ s = true := fun w h => hts w (List.mem_cons_of_mem _ h)
    have hb := body (p, l, e, zRm d mc ms, s, m, as'.toArray, below, meth, c, D, dA, r0, A, mc, ms) ⟨B.exec, B.bytes, hml, B.returns, B.notSynchronized, (name_of_methodNamed B.named B.method).1, findClass_of_methodNamed B.named, hts, hN, hNc, hK, hA0, hfl, rfl, rfl, rfl, hG, ht⟩
    have hsl : (lg_sl as').length = (lg_sl as).length := by
      have : ∀ {l m : List Value}, zvs r0 l m → (lg_sl m).length = (lg_sl l).length := by
        intro l
        induction l with
        | nil => intro m q; have q : m = [] := q; rw [q]
        | cons v l ih =>
          intro m q
          obtain ⟨w, m', e, a, b⟩ := q
          have e1 := ih b
          have e2 := a.cat
          subst e
          simp only [lg_sl, List.flatMap_cons, List.length_append] at e1 ⊢
          rw [e1]
          by_cases hc : v.category = 2
          · rw [if_pos hc, if_pos (by rw [e2]; exact hc)]; rfl
          · rw [if_neg hc, if_neg (by rw [e2]; exact hc)]; rfl
      exact this has
    have hl := lv_entry as' (n := nL) (by rw [hsl]; exact hsz)
    have hE : zE r0 c.maxLocals (lv_args 0 as) ((lg_sl as' ++ List.replicate (nL - (lg_sl as').length) Slot.unset).toArray) := by
      refine ⟨by rw [hml]; exact hl.1, hl.2.1, ?_⟩
      have : ∀ {l m : List Value} (i : Nat), zvs r0 l m → ∀ (j : Nat) (v : Value), zl (lv_args i l) j = some v → ∃ w, zv r0 v w ∧ (j, w) ∈ lv_args i m := by
        intro l
        induction l with
        | nil => intro m i q j v hj; cases hj
        | cons u l ih =>
          intro m i q j v hj
          obtain ⟨w, m', e, a, b⟩ := q
          subst e
          by_cases hij : i = j
          · subst hij
            have e9 : zl (lv_args i (u :: l)) i = some u := by simp [lv_args, zl]
            rw [e9] at hj
            cases hj
            exact ⟨w, a, List.mem_cons_self⟩
          · have hbq : Nat.beq i j = false := by
              cases hb : Nat.beq i j with
              | false => rfl
              | true => exact absurd (Nat.eq_of_beq_eq_true hb) hij
            have e9 : zl (lv_args i (u :: l)) j = zl (lv_args (if u.category = 2 then i + 2 else i + 1) l) j := by simp [lv_args, zl, hbq]
            rw [e9] at hj
            obtain ⟨x, h1, h2⟩ := ih _ b j v hj
            refine ⟨x, h1, ?_⟩
            show (j, x) ∈ (i, w) :: lv_args (if w.category = 2 then i + 2 else i + 1) m'
            rw [a.cat]
            exact List.mem_cons_of_mem _ h2
      intro i v hv
      obtain ⟨w, h1, h2⟩ := this 0 has i v hv
      exact ⟨w, h1, hl.2.2 (i, w) h2⟩
    have hW := hb r0 s.heap [] _ [] zsb.rf hS hA va_S.rf hE rfl
    rw [← lg_entry_eq] at hW
    obtain ⟨t, a1, o, b1, b2, b3⟩ := hW s₁ hh0 (Stand.of_body B)
    exact ⟨t, o, a1, b1, b2, b3⟩

section ZX4
variable {y : MethodName} {cc : ByteArray} {nL : Nat} {ret : Option FieldType} {hh : List (Nat × Nat × Nat × Nat)} {d kc ks : Nat} {X : zX} {Q : zO → zH → Prop} {h : zH} {k n pc : Nat} {env : List (Nat × Value)} {st : List Value}
theorem z_athrow (K : zK y cc nL ret hh d kc ks X) {q ci : Nat} {fs : List Value} {C : String} (hq : h q = some (.inr (ci, fs))) (hci : (zcl[ci]?).map (fun q => q.1) = some C) (dd : decode cc pc = .ok (.athrow, 1)) (kk : zT X Q h k n pc env q) (h21 : ci ≠ 21 := by decide) : zW X Q h k n pc env (.ref q :: st) := by
  obtain ⟨p, l, e, R, s, m, args, below, meth, c, D, dA, r0, A, mc, ms⟩ := X
  obtain ⟨hx, hb, hml, hrt, hlk, hnm, hown, hts, hN, hNc, hK, hA0, hfl, hR, hmc, hms, hG, hTb⟩ := K
  intro r H locs ls st' g0 g1 g2 g3 g4 g5
  obtain ⟨a, rest, gr, rfl, g6⟩ := zvs_r g5
  obtain ⟨cell, q1, -, q3⟩ := zcell hK g1 hq gr hci
  obtain ⟨q9, hq9⟩ : ∃ q, zcl[ci]? = some q := by
    cases hz : zcl[ci]? with
    | none => rw [hz] at hci; cases hci
    | some q => exact ⟨q, rfl⟩
  obtain ⟨fs9, -, r9, -, cell9, w1, -, q2, -⟩ := zobj (g1.at hq gr (Or.inl (show (ci == 21) = false from beq_false_of_ne h21))) hq9
  cases Option.some.inj (w1.symm.trans q1)
  exact vx_athrow hx hb dd (fun T hT X => kk r H locs ls rest C cell a g0 g1 g2 g3 g4 gr q1 q2 q3 T hT X)
/-- nobody here catches it -/
theorem z_out (K : zK y cc nL ret hh d kc ks X) {q : Nat} (hout : ((tableOf hh).all fun x => !covers x pc) = true) (hk : k ≤ kc) (hn : n ≤ ks) (hq : Q (.inr q) h) : zT X Q h k n pc env q := by
  obtain ⟨p, l, e, R, s, m, args, below, meth, c, D, dA, r0, A, mc, ms⟩ := X
  obtain ⟨hx, hb, hml, hrt, hlk, hnm, hown, hts, hN, hNc, hK, hA0, hfl, hR, hmc, hms, hG, hTb⟩ := K
  intro r H locs ls st' E ce a g0 g1 g2 g3 g4 gq hce hcv hcl T hT X
  subst hmc
  subst hms
  have ho : ∀ x ∈ c.exceptionTable.toList, covers x pc = false := by
    intro x hx
    rw [hTb] at hx
    have h9 := List.all_eq_true.mp hout x hx
    cases hc : covers x pc with
    | false => rfl
    | true => rw [hc] at h9; cases h9
  obtain ⟨st1, hrun, hend, hW, hsm⟩ := X.leaveThrown a (g := F0 m pc ls st') rfl rfl rfl ho hlk
  have hheap : (T.setFrames (.throwing a :: below)).heap = H := hT
  exact ⟨_, st1, .threw a, hrun, hend, Or.inr ⟨q, a, r, h, E, ce, locs, rfl, gq, hq, g0, by rw [hheap]; exact g1, g2, g3.F hheap, by rw [hheap]; exact hce, hcv, hcl, hW, hsm.mono hk hn, g3.2.2⟩⟩
/-- the handler x catches it: those ahead of it do not -/
theorem z_catch (K : zK y cc nL ret hh d kc ks X) {q ci : Nat} {fs : List Value} {C E : String} (hq : h q = some (.inr (ci, fs))) (hci : (zcl[ci]?).map (fun q => q.1) = some C) (pre : List ExceptionTableEntry) (x : ExceptionTableEntry) (suf : List ExceptionTableEntry) (hsplit : tableOf hh = pre ++ x :: suf)
    (hpass : ∀ z ∈ pre, covers z pc = false ∨ (z.catchType ≠ 0 ∧ ∃ nm : String, Jvm.Cond.classLink y.cls z.catchType nm ∈ lw_all ∧ (C, nm) ∈ zncl)) (hx9 : covers x pc = true) (h09 : x.catchType ≠ 0) (hl : Jvm.Cond.classLink y.cls x.catchType E ∈ lw_all) (hc : Jvm.Cond.castable C E ∈ lw_tbl)
    (kk : zW X Q h k n x.handlerPc env [.ref q]) : zT X Q h k n pc env q := by
  obtain ⟨p, l, e, R, s, m, args, below, meth, c, D, dA, r0, A, mc, ms⟩ := X
  obtain ⟨hx, hb, hml, hrt, hlk, hnm, hown, hts, hN, hNc, hK, hA0, hfl, hR, hmc, hms, hG, hTb⟩ := K
  intro r H locs ls st' E9 ce a g0 g1 g2 g3 g4 gq hce hcv hcl
  obtain ⟨cell, q1, -, q3⟩ := zcell hK g1 hq gq hci
  cases Option.some.inj (q1.symm.trans hce)
  have q2 := hcv
  exact vx_catch hown pre x suf (hTb.trans hsplit) (fun z hz => (hpass z hz).imp id fun ⟨h1, nm, h2, h3⟩ => ⟨h1, nm, hts _ h2, hNc.1 _ h3⟩) hx9 h09 (hts _ hl) (va_Nw.use rfl (hN _ hc rfl)) q1 q2 q3 (kk r H locs ls _ g0 g1 g2 g3 g4 (zvs.r gq rfl))
end ZX4
