/-! ===== a private method, called on an object of a class below ===== -/
section
variable {p : Program} {l : Launch} {e : Env} {R : Room} {s : State} {m : MethodId} {args : Array Value} {below : List Frame} {meth : Method} {c : Code}
theorem vp_callP {T : State} {locs : List Loc} {cells slots : Nat} (X : Stand p l e R s m args below meth c T locs cells slots) (hexec : p.tables.exec = Jvm.exec) {own : String} {index : Nat} {y : MethodName} {bytes : ByteArray} {maxL : Nat} {ret : Option FieldType}
    (hown : s.vm.findClass own = some m.cls) (hlink : (Cond.methodLink own index y).before args s = true) (hinst : (Cond.instanceMethod y).before args s = true) (hpriv : (Cond.privateMethod y).before args s = true) (hsame : (Cond.sameMethod y.cls y.cls y.name y.desc).before args s = true)
    (hcode : (Cond.code y bytes maxL ret).before args s = true) (hy : y.cls ≠ "java/lang/invoke/MethodHandle" ∧ y.cls ≠ "java/lang/invoke/VarHandle")
    {W9 : Nat} {Pre : Pt → Array Value → Prop} {Post : Pt → Array Value → Option Value → Pt → Prop} {PostX : Pt → Array Value → Addr → Pt → Prop} (hK : vx_Back l R p e below s args y 3 W9 Pre Post PostX)
    {b : Addr} {cellB : Cell} (hcell : T.heap[b]? = some cellB) (hobj : cellB.vm.isStatics = false)
    {g : JFrame} (hg : g.method = m) (hsize : g.locals.size = c.maxLocals) {argsL rest : List Value} (hlen : ∀ sig, parseMethodDescriptor y.desc = some sig → argsL.length = sig.parameters.length)
    (hstack : g.stack = argsL.reverse ++ .ref b :: rest) (hW : 2 * g.monitorRoom + (rest.map fun v => v.category).sum ≤ W9) (hdg : decode c.code g.pc = .ok (.invokevirtual index, 3))
    (hpre : ∀ vm₁, s.WarmedH vm₁ → Pre ⟨T.setVm vm₁, locs, cells, slots⟩ (Value.ref b :: argsL).toArray) :
    (∃ (v : Option Value) (vm₁ : Vm) (B : Pt), s.WarmedH vm₁ ∧ Stand p l e R s m args below meth c B.U B.locs B.cells B.slots ∧ Post ⟨T.setVm vm₁, locs, cells, slots⟩ (Value.ref b :: argsL).toArray v B ∧
      ∀ target, Steps p.tables e below (B.U.setTop { g with pc := g.pc + 3, stack := v.toList ++ rest }) target → Steps p.tables e below (T.setTop g) target) ∨
    (∃ (q : Addr) (vm₁ : Vm) (B : Pt), s.WarmedH vm₁ ∧ Stand p l e R s m args below meth c B.U B.locs B.cells B.slots ∧ PostX ⟨T.setVm vm₁, locs, cells, slots⟩ (Value.ref b :: argsL).toArray q B ∧
      Steps p.tables e below (T.setTop g) ((B.U.setTop { g with stack := rest }).pushFrame (.throwing q))) := by
  obtain ⟨mk, methM, hnamed, hmethM, hstM, habM⟩ := Cond.instanceMethod_spec hinst
  obtain ⟨methM', cM, hmethM', -, -, -, -, -, -, hsigM⟩ := Cond.code_spec hnamed hcode
  cases hmethM.symm.trans hmethM'
  obtain ⟨cn, kP, r1, hcn, hck, hni, -, -⟩ := Cond.sameMethod_found hsame
  cases (findClass_of_methodNamed hnamed).symm.trans hcn
  have hselP : selectMethod e.platform s.vm cellB.cls mk = .method mk := selectMethod_private hmethM (Cond.privateMethod_at hpriv mk methM hnamed hmethM)
  obtain ⟨vm₁, X₁, hstep₁⟩ := X.invokevirtual hexec hown hlink hnamed hmethM hstM hck hni hy (a := b) (cell := cellB) hcell
    (fun z h => by rw [h] at hobj; cases hobj) hselP hmethM habM hck hni (g := g) hg (argsL := argsL) (rest := rest) (hlen _ hsigM) hstack hdg
  rcases hK m meth c ⟨T.setVm vm₁, locs, cells, slots⟩ { g with stack := rest } (.invokevirtual index) mk (Value.ref b :: argsL).toArray X₁ hg hsize hdg hW (X₁.named hnamed) (hpre vm₁ X₁.warmed) with ⟨v, B, X', hpost, hsteps⟩ | ⟨q, B, X', hpost, hsteps⟩
  · exact Or.inl ⟨v, vm₁, B, X₁.warmed, X', hpost, fun target h => hstep₁ _ fun acts => by rw [doInvoke_state]; exact hsteps.trans h⟩
  · exact Or.inr ⟨q, vm₁, B, X₁.warmed, X', hpost, hstep₁ _ fun acts => by rw [doInvoke_state]; exact hsteps⟩
theorem vp_callU {T : State} {locs : List Loc} {cells slots : Nat} (X : Stand p l e R s m args below meth c T locs cells slots) (hexec : p.tables.exec = Jvm.exec) {own : String} {index : Nat} {y : MethodName} {bytes : ByteArray} {maxL : Nat} {ret : Option FieldType}
    (hown : s.vm.findClass own = some m.cls) (hlink : (Cond.methodLink own index y).before args s = true) (hinst : (Cond.instanceMethod y).before args s = true) (hsup : (Cond.superclass own y.cls).before args s = true) (hy1 : y.name ≠ "<init>") (hsame : (Cond.sameMethod y.cls y.cls y.name y.desc).before args s = true)
    (hcode : (Cond.code y bytes maxL ret).before args s = true)
    {W9 : Nat} {Pre : Pt → Array Value → Prop} {Post : Pt → Array Value → Option Value → Pt → Prop} {PostX : Pt → Array Value → Addr → Pt → Prop} (hK : vx_Back l R p e below s args y 3 W9 Pre Post PostX)
    {b : Addr} {cellB : Cell} (hcell : T.heap[b]? = some cellB) (hobj : cellB.vm.isStatics = false) (hcls : s.vm.findClass own = some cellB.cls)
    {g : JFrame} (hg : g.method = m) (hsize : g.locals.size = c.maxLocals) {argsL rest : List Value} (hlen : ∀ sig, parseMethodDescriptor y.desc = some sig → argsL.length = sig.parameters.length)
    (hstack : g.stack = argsL.reverse ++ .ref b :: rest) (hW : 2 * g.monitorRoom + (rest.map fun v => v.category).sum ≤ W9) (hdg : decode c.code g.pc = .ok (.invokespecial index, 3))
    (hpre : ∀ vm₁, s.WarmedH vm₁ → Pre ⟨T.setVm vm₁, locs, cells, slots⟩ (Value.ref b :: argsL).toArray) :
    (∃ (v : Option Value) (vm₁ : Vm) (B : Pt), s.WarmedH vm₁ ∧ Stand p l e R s m args below meth c B.U B.locs B.cells B.slots ∧ Post ⟨T.setVm vm₁, locs, cells, slots⟩ (Value.ref b :: argsL).toArray v B ∧
      ∀ target, Steps p.tables e below (B.U.setTop { g with pc := g.pc + 3, stack := v.toList ++ rest }) target → Steps p.tables e below (T.setTop g) target) ∨
    (∃ (q : Addr) (vm₁ : Vm) (B : Pt), s.WarmedH vm₁ ∧ Stand p l e R s m args below meth c B.U B.locs B.cells B.slots ∧ PostX ⟨T.setVm vm₁, locs, cells, slots⟩ (Value.ref b :: argsL).toArray q B ∧
      Steps p.tables e below (T.setTop g) ((B.U.setTop { g with stack := rest }).pushFrame (.throwing q))) := by
  obtain ⟨mk, methM, hnamed, hmethM, hstM, habM⟩ := Cond.instanceMethod_spec hinst
  obtain ⟨methM', cM, hmethM', -, -, -, -, -, -, hsigM⟩ := Cond.code_spec hnamed hcode
  cases hmethM.symm.trans hmethM'
  obtain ⟨cn, dk, kp, hcn, hd, -, hsuper, -, -, hnid⟩ := Cond.superclass_spec hown hsup
  have e0 : m.cls = cellB.cls := Option.some.inj (hown.symm.trans hcls)
  have e1 : mk.cls = cn := Option.some.inj ((findClass_of_methodNamed hnamed).symm.trans hcn)
  obtain ⟨vm₁, X₁, hstep₁⟩ := X.invokespecialUp hexec (owner := y.cls) hown hlink hsame hnamed hmethM hstM habM hy1 hd hnid hcn hsuper (by rw [e1]; simp [Vm.isSubclass, Vm.isSubclassAux]) (a := b) (cell := cellB) (kcell := dk) hcell
    (fun z h => by rw [h] at hobj; cases hobj) (by rw [← e0]; exact hd) (g := g) hg (argsL := argsL) (rest := rest) (hlen _ hsigM) hstack hdg
  rcases hK m meth c ⟨T.setVm vm₁, locs, cells, slots⟩ { g with stack := rest } (.invokespecial index) mk (Value.ref b :: argsL).toArray X₁ hg hsize hdg hW (X₁.named hnamed) (hpre vm₁ X₁.warmed) with ⟨v, B, X', hpost, hsteps⟩ | ⟨q, B, X', hpost, hsteps⟩
  · exact Or.inl ⟨v, vm₁, B, X₁.warmed, X', hpost, fun target h => hstep₁ _ (by rw [doInvoke_state]; exact hsteps.trans h)⟩
  · exact Or.inr ⟨q, vm₁, B, X₁.warmed, X', hpost, hstep₁ _ (by rw [doInvoke_state]; exact hsteps)⟩
end
section ZPV
variable {y : MethodName} {cc : ByteArray} {nL : Nat} {ret : Option FieldType} {hh : List (Nat × Nat × Nat × Nat)} {d kc ks : Nat} {X : zX} {Q : zO → zH → Prop} {h : zH} {k n pc : Nat} {env : List (Nat × Value)} {st : List Value}
def zcP (own : String) (idx : Nat) (z : MethodName) (bytes : ByteArray) (maxL : Nat) (rt : Option FieldType) (na : Nat) : Prop :=
  zcB own idx z bytes maxL rt na ∧ Cond.instanceMethod z ∈ lw_all ∧ Cond.privateMethod z ∈ lw_tbl ∧ Cond.sameMethod z.cls z.cls z.name z.desc ∈ lw_all
theorem z_callP (K : zK y cc nL ret hh d kc ks X) {idx ci nm : Nat} {C : String} {z : MethodName} {bytes : ByteArray} {maxL : Nat} {rt : Option FieldType} {na d' mc' ms' : Nat} {as fs : List Value} {Qc : zO → zH → Prop} {stk : List Value}
    (hM : zMet z (ws_ z bytes maxL rt) d' (.ref nm :: as) h Qc mc' ms') (cw : zcP y.cls idx z bytes maxL rt na) (hobj : h nm = some (.inr (ci, fs))) (hci : (zcl[ci]?).map (fun q => q.1) = some C) (hna : as.length = na) (hstk : as.reverse ++ .ref nm :: st = stk) (hd : d' < d) (hk : k + mc' ≤ kc) (hn : n + ms' ≤ ks) (hcat : (st.map fun v => v.category).sum ≤ 8)
    (dd : decode cc pc = .ok (.invokevirtual idx, 3)) (kx : ∀ q h', Qc (.inr q) h' → zT X Q h' (k + mc') (n + ms') pc env q) (kk : ∀ v h', Qc (.inl v) h' → zW X Q h' (k + mc') (n + ms') (pc + 3) env (v.toList ++ st)) : zW X Q h k n pc env stk := by
  subst hstk
  obtain ⟨p, l, e, R, s, m, args, below, meth, c, D, dA, r0, A, mc, ms⟩ := X
  obtain ⟨hx, hb, hml, hrt, hlk, hnm, hown, hts, hN, hNc, hK, hA0, hfl, hR, hmc, hms, hG, hTb⟩ := K
  intro r H locs ls st' g0 g1 g2 g3 g4 g5
  obtain ⟨sa, sb, rfl, ha, hb5⟩ := zvs.split g5
  obtain ⟨b, rest, gr, rfl, g6⟩ := zvs_r hb5
  obtain ⟨⟨hcode, hini, hpl, hlen, hmx, hlink⟩, hinst, hprv, hsm⟩ := cw
  obtain ⟨cell, q1, q2, q3⟩ := zcell hK g1 hobj gr hci
  have has : zvs r (.ref nm :: as) (.ref b :: sa.reverse) := zvs.r gr (by have := ha.rev; rwa [List.reverse_reverse] at this)
  refine zx_after (len := 3) (a := (Value.ref b :: sa.reverse).toArray) g0 g3 g4 g6 (fun T hT X => ?_) kk kx
  have hbk := zx_back (p := p) (e := e) (below := below) (s := s) (sargs := args) (len := 3) (R := R) (D := D) (dA := dA) (A := A) (l := l) hM hfl has (by rw [hR]; exact hd) (by rw [hR]; show 8 + (maxL + 11) + 64 * d' ≤ 64 * d; omega) (zws hts hcode) (Or.inl List.mem_cons_self) (fun a' U hW => word_at hW (Or.inl (by first | rfl | simp [Cond.onTables, Cond.keeps, Cond.steady])) (hts _ hini))
  exact vp_callP X hx hown (hts _ hlink) (hts _ hinst) (va_Nw.use rfl (hN _ hprv rfl)) (hts _ hsm) (hts _ hcode) hpl hbk (by rw [hT]; exact q1) q2 (g := F0 m pc ls (sa ++ .ref b :: rest)) rfl (by show ls.size = c.maxLocals; exact g4.1) (argsL := sa.reverse) (rest := rest) (fun sig hs => by rw [List.length_reverse, ha.len, List.length_reverse, hna]; exact zlen hlen hs) (by rw [List.reverse_reverse]) (lv_room (by rw [g6.cats]; exact hcat)) (by rw [hb]; exact dd)
    (fun vm₁ hW => ⟨by rw [hR]; exact hk, by rw [hR]; exact hn, zPc.call hT hW g0 g1 g2 g3 hK hA0 hN hNc hG⟩)
def zcU (own : String) (idx : Nat) (z : MethodName) (bytes : ByteArray) (maxL : Nat) (rt : Option FieldType) (na : Nat) : Prop :=
  zcB own idx z bytes maxL rt na ∧ Cond.instanceMethod z ∈ lw_all ∧ (Cond.superclass own z.cls ∈ lw_all ∧ z.name ≠ "<init>") ∧ Cond.sameMethod z.cls z.cls z.name z.desc ∈ lw_all
theorem z_callU (K : zK y cc nL ret hh d kc ks X) {idx ci nm : Nat} {z : MethodName} {bytes : ByteArray} {maxL : Nat} {rt : Option FieldType} {na d' mc' ms' : Nat} {as fs : List Value} {Qc : zO → zH → Prop} {stk : List Value}
    (hM : zMet z (ws_ z bytes maxL rt) d' (.ref nm :: as) h Qc mc' ms') (cw : zcU y.cls idx z bytes maxL rt na) (hobj : h nm = some (.inr (ci, fs))) (hci : (zcl[ci]?).map (fun q => q.1) = some y.cls) (hna : as.length = na) (hstk : as.reverse ++ .ref nm :: st = stk) (hd : d' < d) (hk : k + mc' ≤ kc) (hn : n + ms' ≤ ks) (hcat : (st.map fun v => v.category).sum ≤ 8)
    (dd : decode cc pc = .ok (.invokespecial idx, 3)) (kx : ∀ q h', Qc (.inr q) h' → zT X Q h' (k + mc') (n + ms') pc env q) (kk : ∀ v h', Qc (.inl v) h' → zW X Q h' (k + mc') (n + ms') (pc + 3) env (v.toList ++ st)) : zW X Q h k n pc env stk := by
  subst hstk
  obtain ⟨p, l, e, R, s, m, args, below, meth, c, D, dA, r0, A, mc, ms⟩ := X
  obtain ⟨hx, hb, hml, hrt, hlk, hnm, hown, hts, hN, hNc, hK, hA0, hfl, hR, hmc, hms, hG, hTb⟩ := K
  intro r H locs ls st' g0 g1 g2 g3 g4 g5
  obtain ⟨sa, sb, rfl, ha, hb5⟩ := zvs.split g5
  obtain ⟨b, rest, gr, rfl, g6⟩ := zvs_r hb5
  obtain ⟨⟨hcode, hini, hpl, hlen, hmx, hlink⟩, hinst, hprv, hsm⟩ := cw
  obtain ⟨cell, q1, q2, q3⟩ := zcell hK g1 hobj gr hci
  have has : zvs r (.ref nm :: as) (.ref b :: sa.reverse) := zvs.r gr (by have := ha.rev; rwa [List.reverse_reverse] at this)
  refine zx_after (len := 3) (a := (Value.ref b :: sa.reverse).toArray) g0 g3 g4 g6 (fun T hT X => ?_) kk kx
  have hbk := zx_back (p := p) (e := e) (below := below) (s := s) (sargs := args) (len := 3) (R := R) (D := D) (dA := dA) (A := A) (l := l) hM hfl has (by rw [hR]; exact hd) (by rw [hR]; show 8 + (maxL + 11) + 64 * d' ≤ 64 * d; omega) (zws hts hcode) (Or.inl List.mem_cons_self) (fun a' U hW => word_at hW (Or.inl (by first | rfl | simp [Cond.onTables, Cond.keeps, Cond.steady])) (hts _ hini))
  exact vp_callU X hx hown (hts _ hlink) (hts _ hinst) (hts _ hprv.1) hprv.2 (hts _ hsm) (hts _ hcode) hbk (by rw [hT]; exact q1) q2 q3 (g := F0 m pc ls (sa ++ .ref b :: rest)) rfl (by show ls.size = c.maxLocals; exact g4.1) (argsL := sa.reverse) (rest := rest) (fun sig hs => by rw [List.length_reverse, ha.len, List.length_reverse, hna]; exact zlen hlen hs) (by rw [List.reverse_reverse]) (lv_room (by rw [g6.cats]; exact hcat)) (by rw [hb]; exact dd)
    (fun vm₁ hW => ⟨by rw [hR]; exact hk, by rw [hR]; exact hn, zPc.call hT hW g0 g1 g2 g3 hK hA0 hN hNc hG⟩)
theorem z_callVO (K : zK y cc nL ret hh d kc ks X) {idx ci nm : Nat} {C owner : String} {z x : MethodName} {bytes : ByteArray} {maxL : Nat} {rt : Option FieldType} {na d' mc' ms' : Nat} {as fs : List Value} {Qc : zO → zH → Prop} {stk : List Value} 
    (hM : zMet z (ws_ z bytes maxL rt) d' (.ref nm :: as) h Qc mc' ms') (hcode : Cond.code z bytes maxL rt ∈ lw_all) (hini : Cond.initialized z.cls ∈ lw_all) (hpl : owner ≠ "java/lang/invoke/MethodHandle" ∧ owner ≠ "java/lang/invoke/VarHandle") (hlen : (parseMethodDescriptor x.desc).map (fun d => d.parameters.length) = some na) (hmx : maxL ≤ 45) (hlink : Cond.methodLink y.cls idx x ∈ lw_all) (hsame : Cond.sameMethod x.cls owner x.name x.desc ∈ lw_all) {b0 : ByteArray} {m0 : Nat} {r9 : Option FieldType} (hdi : Cond.instanceMethod ⟨owner, x.name, x.desc⟩ ∈ lw_all) (hdc : Cond.code ⟨owner, x.name, x.desc⟩ b0 m0 r9 ∈ lw_all) (hsel : Cond.selects C x z ∈ lw_all) (hinst : Cond.instanceMethod z ∈ lw_all) (hobj : h nm = some (.inr (ci, fs))) (hci : (zcl[ci]?).map (fun q => q.1) = some C) (hna : as.length = na) (hstk : as.reverse ++ .ref nm :: st = stk) (hd : d' < d) (hk : k + mc' ≤ kc) (hn : n + ms' ≤ ks) (hcat : (st.map fun v => v.category).sum ≤ 8)
    (dd : decode cc pc = .ok (.invokevirtual idx, 3)) (kx : ∀ q h', Qc (.inr q) h' → zT X Q h' (k + mc') (n + ms') pc env q) (kk : ∀ v h', Qc (.inl v) h' → zW X Q h' (k + mc') (n + ms') (pc + 3) env (v.toList ++ st)) : zW X Q h k n pc env stk := by
  subst hstk
  obtain ⟨p, l, e, R, s, m, args, below, meth, c, D, dA, r0, A, mc, ms⟩ := X
  obtain ⟨hx, hb, hml, hrt, hlk, hnm, hown, hts, hN, hNc, hK, hA0, hfl, hR, hmc, hms, hG, hTb⟩ := K
  intro r H locs ls st' g0 g1 g2 g3 g4 g5
  obtain ⟨sa, sb, rfl, ha, hb5⟩ := zvs.split g5
  obtain ⟨b, rest, gr, rfl, g6⟩ := zvs_r hb5
  obtain ⟨cell, q1, q2, q3⟩ := zcell hK g1 hobj gr hci
  have has : zvs r (.ref nm :: as) (.ref b :: sa.reverse) := zvs.r gr (by have := ha.rev; rwa [List.reverse_reverse] at this)
  refine zx_after (len := 3) (a := (Value.ref b :: sa.reverse).toArray) g0 g3 g4 g6 (fun T hT X => ?_) kk kx
  have hbk := zx_back (p := p) (e := e) (below := below) (s := s) (sargs := args) (len := 3) (R := R) (D := D) (dA := dA) (A := A) (l := l) hM hfl has (by rw [hR]; exact hd) (by rw [hR]; show 8 + (maxL + 11) + 64 * d' ≤ 64 * d; omega) (zws hts hcode) (Or.inl List.mem_cons_self) (fun a' U hW => word_at hW (Or.inl (by first | rfl | simp [Cond.onTables, Cond.keeps, Cond.steady])) (hts _ hini))
  exact vx_callVU X hx hown (hts _ hlink) (hts _ hsame) (va_Decl.of (hts _ hdi) (hts _ hdc)) hpl (hts _ hsel) (hts _ hinst) (hts _ hcode) hbk (by rw [hT]; exact q1) q2 q3 (g := F0 m pc ls (sa ++ .ref b :: rest)) rfl (by show ls.size = c.maxLocals; exact g4.1) (argsL := sa.reverse) (rest := rest) (fun sig hs => by rw [List.length_reverse, ha.len, List.length_reverse, hna]; exact zlen hlen hs) (by rw [List.reverse_reverse]) (lv_room (by rw [g6.cats]; exact hcat)) (by rw [hb]; exact dd)
    (fun vm₁ hW => ⟨by rw [hR]; exact hk, by rw [hR]; exact hn, zPc.call hT hW g0 g1 g2 g3 hK hA0 hN hNc hG⟩)
theorem cP_J6_100 : zcP RJ6 100 yJ6_ensureCapacityInternal cJ6_ensureCapacityInternal 3 none 1 := ⟨⟨q1361, q99, ⟨by decide, by decide⟩, by decide +kernel, by decide, q1358⟩, q1360, q1359, q2274⟩
theorem cP_J6_104 : zcP RJ6 104 yJ6_newCapacity cJ6_newCapacity 6 (some .int) 1 := ⟨⟨q1365, q99, ⟨by decide, by decide⟩, by decide +kernel, by decide, q1362⟩, q1364, q1363, q2275⟩
theorem cP_J6_195 : zcP RJ6 195 yJ6_inflate cJ6_inflate 2 none 0 := ⟨⟨q1389, q99, ⟨by decide, by decide⟩, by decide +kernel, by decide, q1386⟩, q1388, q1387, q2276⟩
theorem cE_J7_343 : zcU RJ7 343 yJ6_length cJ6_length 1 (some .int) 0 := ⟨⟨q1350, q99, ⟨by decide, by decide⟩, by decide +kernel, by decide, q1348⟩, q1349, ⟨q353, by decide⟩, q2272⟩
theorem cE_J7_50 : zcU RJ7 50 yJ6_append cJ6_append 2 (some (.object "java/lang/AbstractStringBuilder")) 1 := ⟨⟨q1357, q99, ⟨by decide, by decide⟩, by decide +kernel, by decide, q1355⟩, q1356, ⟨q353, by decide⟩, q2273⟩
end ZPV
