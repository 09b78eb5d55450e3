/-! ===== a row for the synchronized getCause() ===== -/
theorem gd_0 : decode prog_42_method_8_code 0 = .ok (.aload_n 0, 1) := by decide +kernel
theorem gd_1 : decode prog_42_method_8_code 1 = .ok (.getfield 7, 3) := by decide +kernel
theorem gd_4 : decode prog_42_method_8_code 4 = .ok (.aload_n 0, 1) := by decide +kernel
theorem gd_5 : decode prog_42_method_8_code 5 = .ok (.if_acmp .ne 7, 3) := by decide +kernel
theorem gd_8 : decode prog_42_method_8_code 8 = .ok (.aconst_null, 1) := by decide +kernel
theorem gd_9 : decode prog_42_method_8_code 9 = .ok (.goto 7, 3) := by decide +kernel
theorem gd_12 : decode prog_42_method_8_code 12 = .ok (.aload_n 0, 1) := by decide +kernel
theorem gd_13 : decode prog_42_method_8_code 13 = .ok (.getfield 7, 3) := by decide +kernel
theorem gd_16 : decode prog_42_method_8_code 16 = .ok (.areturn, 1) := by decide +kernel
theorem gc_leave (p : Program) {e : Env} {below : List Frame} {V : State} {g : JFrame} {c : Code} {mG : MethodId} {methG : Method} {codeG : Code} {a : Addr} {cell : Cell} {v : Value} {ig : Instr} {len : Nat} (h : At V g.method c below) (hexec : p.tables.exec = Jvm.exec) (howns : e.platform.frameOwnsMonitors = true)
    (hm : V.vm.method? mG = some methG) (hc : methG.code = some codeG) (hby : codeG.code = prog_42_method_8_code) (hlo : codeG.maxLocals = 1) (hlk : methG.locks = true) (hrt : methG.sig.returnType = some (.object "java/lang/Throwable")) (hp : V.plainMethod mG) (hcell : V.heap[a]? = some cell) (ho : cell.monitor.owner = none) (hcount : cell.monitor.count = 0) (hvr : v.isRef = true) (hdg : decode c.code g.pc = .ok (ig, len)) (target : State) (hrest : Steps p.tables e below (V.setTop { g with pc := g.pc + len, stack := v :: g.stack }) target) : Steps p.tables e below ((fillInside V g mG a cell).setTop (fillJ mG a 16 [v])) target := by
  have hlt : a < V.heap.size := (Array.getElem?_eq_some_iff.mp hcell).1
  have hA : At (fillInside V g mG a cell) mG codeG below := by
    have := At.enter_sync (g := g) h #[.ref a] a (cell.withEntry V.cur) hm hc hp
    rw [hlo] at this
    exact this
  have hcellU : (fillInside V g mG a cell).heap[a]? = some (cell.withEntry V.cur) := by
    show (V.heap.setIfInBounds a (cell.withEntry V.cur))[a]? = _
    simp [hlt]
  jvm_step hA [hexec, hby, gd_16, areturn.wp_sem, hvr, FieldType.isReference]
  refine ⟨methG, hm, ⟨_, hrt, rfl⟩, fun acts' => ?_⟩
  have hfr : (fillInside V g mG a cell).frames = .java (entryFrameSync mG #[.ref a] 1 a) :: .java g :: V.frames.tail := frames_entered (g := g) (show (V.setCell a (cell.withEntry V.cur)).topJava?.isSome from h.top) _
  have hcode : (fillInside V g mG a cell).code? g.method = some c := by
    have := h.code
    rw [State.code?_eq] at this ⊢
    exact this
  rw [doReturn_leave_sync (u := fillInside V g mG a cell) (g := g) (meth := methG) (cg := c) (ig := ig) (len := len) (a := a) (cell := cell.withEntry V.cur) (f := fillJ mG a 16 []) (f₀ := entryFrameSync mG #[.ref a] 1 a) (r := V.frames.tail) acts' howns hfr hm hlk rfl rfl hcellU rfl hcode hdg, Cell.left_withEntry V.cur ho hcount]
  have hH := heapOnly_id.thenSetCell a cell
  have e1 : ((fillInside V g mG a cell).setCell a cell).setFrames (.java g :: V.frames.tail) = ((V.setCell a (cell.withEntry V.cur)).setTop g).setCell a cell := by
    rw [← hH.setFrames]
    show ((fillInside V g mG a cell).setFrames (.java g :: (V.setCell a (cell.withEntry V.cur)).frames.tail)).setCell a cell = _
    rw [setFrames_entered (s := V.setCell a (cell.withEntry V.cur)) h.top]
  rw [e1, hH.setTop_setTop (s := V.setCell a (cell.withEntry V.cur)) h.top]
  show Steps p.tables e below (((V.setCell a (cell.withEntry V.cur)).setCell a cell).setTop _) target
  rw [setCell_twice, State.setCell_asItLies hcell]
  exact hrest
section ZCs
variable {p : Program} {l : Launch} {e : Env} {R : Room} {s : State} {m : MethodId} {args : Array Value} {below : List Frame} {meth : Method} {c : Code} {H : Heap} {locs : List Loc} {cells slots : Nat} {Q : State → Prop}
theorem w_cause {cc : ByteArray} {pc idx : Nat} {ls : Array Slot} {rest : List Value} {a : Nat} {cell : Cell} {own C : String} {v : Value}
    (hexec : p.tables.exec = Jvm.exec) (hb : c.code = cc) (hown : s.vm.findClass own = some m.cls) (hlink : (Cond.methodLink own idx yGetCause).before args s = true) (hi : (Cond.instanceMethod yGetCause).before args s = true) (hcd : (Cond.codeSync yGetCause prog_42_method_8_code 1 (some (.object "java/lang/Throwable"))).before args s = true)
    (h7 : (Cond.fieldLink Bundle.tN 7 Bundle.tN "cause" "Ljava/lang/Throwable;").before args s = true) (l7 : (Cond.lays Bundle.tN Bundle.tN "cause" "Ljava/lang/Throwable;").before args s = true) (hsp : (Cond.superclass Bundle.tN "java/lang/Object").before args s = true)
    (hsel : (Cond.selects C yGetCause yGetCause).before args s = true)
    (hcell : H[a]? = some cell) (hcls : s.vm.findClass C = some cell.cls) (hvm : cell.vm = .none) (hown0 : cell.monitor.owner = none) (hcnt : cell.monitor.count = 0)
    (hst : ∀ ck k i f, s.fieldFound? Bundle.tN "cause" "Ljava/lang/Throwable;" = some (ck, k, i, f) → cell.slots[f.slot]? = some v) (hv : v.isRef = true)
    (hsize : ls.size = c.maxLocals) (hdg : decode cc pc = .ok (.invokevirtual idx, 3)) (hfr : 1 ≤ R.frames) (hlo : (rest.map fun v => v.category).sum + 40 ≤ R.locals)
    (kk : W p l e R s m args below meth c H locs cells slots Q (F0 m (pc + 3) ls ((if v = .ref a then .null else v) :: rest))) : W p l e R s m args below meth c H locs cells slots Q (F0 m pc ls (.ref a :: rest)) := by
  intro T hT X
  have howns : e.platform.frameOwnsMonitors = true := by rw [X.admits.platform]
  have hpl : e.platform.magicAccessors = ({} : Platform).magicAccessors := by rw [X.admits.platform]
  obtain ⟨kd, hkd, -⟩ := Vm.findClass_spec hown
  obtain ⟨mG, methG, hnG, hmG, hstG, habG⟩ := Cond.instanceMethod_spec hi
  obtain ⟨methG', cG, hmG', hcG, hbG, hlG, hrG, hlkG, -, hsigG⟩ := Cond.codeSync_spec hnG hcd
  cases Option.some.inj (hmG.symm.trans hmG')
  have hcT : s.vm.findClass Bundle.tN = some mG.cls := findClass_of_methodNamed hnG
  obtain ⟨kT, hkT, hnameT⟩ := Vm.findClass_spec hcT
  obtain ⟨ci, nt, cf, hl, hr, hcf, hpool⟩ := Cond.linkedMethod hown hkd hnG hlink e.platform hpl
  obtain ⟨_, k1, _, _, hk1, _, _, hord, _, hni⟩ := Cond.superclass_spec hcT hsp
  cases Option.some.inj (hkT.symm.trans hk1)
  obtain ⟨mk9, hmk9, hitf9, hselG⟩ : ∃ mk : Class, s.vm.classes[mG.cls]? = some mk ∧ mk.isInterface = false ∧ selectMethod e.platform s.vm cell.cls mG = .method mG := by
    obtain ⟨c2, r2, m2, q1, q2, q3, q4, mk, q5, q6⟩ := Cond.selects_spec hsel
    cases Option.some.inj (q1.symm.trans hcls)
    cases Option.some.inj (q2.symm.trans (State.methodFound?_of_named hnG (by decide)))
    cases Option.some.inj (q3.symm.trans hnG)
    exact ⟨mk, q5, q6, by rw [Launch.admits_selectMethod X.admits]; exact q4⟩
  obtain ⟨ci7, i7, f7, hk7, hg7, ha7, hs7, -, -, -, hff7⟩ := Cond.ownField (t := .object "java/lang/Throwable") hcT hkT (by decide +kernel) h7 l7 e.platform hpl
  have hv7 := hst _ _ _ _ hff7
  have hobj : ∀ k, cell.vm ≠ .statics k := fun k h => by rw [hvm] at h; cases h
  have hknown : cell.vm ≠ .unknown := fun h => by rw [hvm] at h; cases h
  have hcellT : T.heap[a]? = some cell := by rw [hT]; exact hcell
  have hpar : (0 : Nat) = methG.sig.parameters.length := by
    have : parseMethodDescriptor "()Ljava/lang/Throwable;" = some methG.sig := hsigG
    have e9 : (parseMethodDescriptor "()Ljava/lang/Throwable;").map (fun d => d.parameters.length) = some 0 := by decide +kernel
    rw [this] at e9
    exact (Option.some.inj e9).symm
  obtain ⟨vm1, hW1, st1⟩ := Steps.invokeVirtualCold (tb := p.tables) (e := e) (below := below) (s₀ := s) (U := T) (c := c) (f := F0 m pc ls (.ref a :: rest)) (args := []) (rest := rest) (a := a) (cell := cell) (r := mG) (m := mG) X.here hexec (by show decode c.code pc = _; rw [hb]; exact hdg) X.warmed
    hl hr (fun k hk => by cases Option.some.inj (hkT.symm.trans hk); rw [hnameT]; decide) hkd hcf hpool hkT hni hmG hstG hpar rfl hcellT hobj hselG hmG habG hmk9 hitf9
  have X1 := X.noted hW1
  have hfr1 := X1.framesAbove (n := 0) (by omega)
  have hst1 := X1.stackAbove (g := F0 m pc ls rest) hsize (K := 40) (by show 2 * 0 + (rest.map fun v => v.category).sum + 40 ≤ R.locals; omega)
  obtain ⟨g0, hg0⟩ := X1.frames_eq
  have htop : (T.setVm vm1).topJava?.isSome := by rw [State.topJava?_of_frames hg0]; rfl
  have hfg : ((T.setVm vm1).setTop (F0 m pc ls rest)).frames = .java (F0 m pc ls rest) :: (T.setVm vm1).frames.tail := by rw [State.frames_setTop _ hg0, hg0]; rfl
  have hlen : (T.setVm vm1).frames.length = (Frame.java (F0 m pc ls rest) :: (T.setVm vm1).frames.tail).length := by rw [hg0]; rfl
  have hlimg : e.platform.stackLimits ((T.setVm vm1).setTop (F0 m pc ls rest)).me = e.platform.stackLimits (T.setVm vm1).me := by rw [State.stackLimits_setTop _ htop]
  have hroom : e.platform.stackFull ((((T.setVm vm1).setTop (F0 m pc ls rest)).threads[((T.setVm vm1).setTop (F0 m pc ls rest)).cur]?).getD { frames := [] }) ((T.setVm vm1).setTop (F0 m pc ls rest)).frames (1 + 2) = false :=
    Jvm.roomAbove (pushed := []) (base := .java (F0 m pc ls rest) :: (T.setVm vm1).frames.tail) (free := 40) (lim := e.platform.stackLimits (T.setVm vm1).me) hfg hlimg (by rw [← hlen]; simp only [List.length_nil]; omega) hst1 (by simp only [stackUse_nil]; omega)
  have hplain : ∀ vm, s.WarmedH vm → (T.setVm vm).plainMethod mG := fun vm hWv => hWv.plainAt (m := mG) (fun k hk => by cases Option.some.inj (hkT.symm.trans hk); rw [hnameT]; decide)
  have hAof : ∀ vm, s.WarmedH vm → At (fillInside (T.setVm vm) (F0 m pc ls rest) mG a cell) mG cG below := fun vm hWv => by
    have := At.enter_sync (g := F0 m pc ls rest) (X.noted hWv).here #[.ref a] a (cell.withEntry T.cur) (hWv.methodAt hmG) hcG (hplain vm hWv)
    rw [hlG] at this
    exact this
  have hlt : a < T.heap.size := (Array.getElem?_eq_some_iff.mp hcellT).1
  have hcellU : ∀ vm, (fillInside (T.setVm vm) (F0 m pc ls rest) mG a cell).heap[a]? = some (cell.withEntry T.cur) := fun vm => by
    show (T.heap.setIfInBounds a (cell.withEntry T.cur))[a]? = _
    simp [hlt]
  have fin : ∀ vm x, s.WarmedH vm → x = (if v = .ref a then .null else v) → x.isRef = true → ∃ t, Steps p.tables e below ((fillInside (T.setVm vm) (F0 m pc ls rest) mG a cell).setTop (fillJ mG a 16 [x])) t ∧ Q t := fun vm x hWv hx hxr => by
    obtain ⟨t, hs9, hq9⟩ := kk (T.setVm vm) hT (X.noted hWv)
    refine ⟨t, gc_leave p (V := T.setVm vm) (g := F0 m pc ls rest) (c := c) (ig := .invokevirtual idx) (len := 3) (X.noted hWv).here hexec howns (hWv.methodAt hmG) hcG hbG hlG hlkG hrG (hplain vm hWv) hcellT hown0 hcnt hxr (by show decode c.code pc = _; rw [hb]; exact hdg) t ?_, hq9⟩
    rw [hx]
    exact hs9
  obtain ⟨vm2, hW2, st2⟩ := Steps.getfieldCold (tb := p.tables) (e := e) (below := below) (s₀ := s) (U := fillInside (T.setVm vm1) (F0 m pc ls rest) mG a cell) (c := cG) (f := fillJ mG a 1 [.ref a]) (a := a) (rest := []) (cell := cell.withEntry T.cur) (v := v) (hAof vm1 hW1) hexec (by rw [hbG]; exact gd_1) hW1 hk7 hg7 hkT ha7 hs7 rfl (hcellU vm1) hknown hv7
  by_cases hva : v = .ref a
  · obtain ⟨t, hs9, hq9⟩ := fin vm2 .null hW2 (if_pos hva).symm rfl
    refine ⟨t, st1 t ?_, hq9⟩
    show Steps p.tables e below (doInvoke e ((T.setVm vm1).setTop (F0 m pc ls rest)) [] mG #[.ref a]).1 t
    rw [doInvoke_enter_sync (s := T.setVm vm1) htop [] (hW1.methodAt hmG) hcG hlkG hstG rfl hcellT (Or.inl hown0) (by rw [hlG]; exact hroom), hlG]
    show Steps p.tables e below ((fillInside (T.setVm vm1) (F0 m pc ls rest) mG a cell).setTop (fillJ mG a 0 [])) t
    jvm_step (hAof vm1 hW1) [hexec, hbG, gd_0, Value.isRef]
    refine st2 t ?_
    show Steps p.tables e below ((fillInside (T.setVm vm2) (F0 m pc ls rest) mG a cell).setTop (fillJ mG a 4 [v])) t
    rw [hva]
    jvm_step (hAof vm2 hW2) [hexec, hbG, gd_4, Value.isRef]
    jvm_step (hAof vm2 hW2) [hexec, hbG, gd_5, if_acmp.wp_sem, Value.asRef?, Op.if_acmp.holds]
    jvm_step (hAof vm2 hW2) [hexec, hbG, gd_8, aconst_null.wp_sem]
    jvm_step (hAof vm2 hW2) [hexec, hbG, gd_9]
    exact hs9
  · obtain ⟨vm3, hW3, st3⟩ := Steps.getfieldCold (tb := p.tables) (e := e) (below := below) (s₀ := s) (U := fillInside (T.setVm vm2) (F0 m pc ls rest) mG a cell) (c := cG) (f := fillJ mG a 13 [.ref a]) (a := a) (rest := []) (cell := cell.withEntry T.cur) (v := v) (hAof vm2 hW2) hexec (by rw [hbG]; exact gd_13) hW2 hk7 hg7 hkT ha7 hs7 rfl (hcellU vm2) hknown hv7
    obtain ⟨t, hs9, hq9⟩ := fin vm3 v hW3 (if_neg hva).symm hv
    refine ⟨t, st1 t ?_, hq9⟩
    show Steps p.tables e below (doInvoke e ((T.setVm vm1).setTop (F0 m pc ls rest)) [] mG #[.ref a]).1 t
    rw [doInvoke_enter_sync (s := T.setVm vm1) htop [] (hW1.methodAt hmG) hcG hlkG hstG rfl hcellT (Or.inl hown0) (by rw [hlG]; exact hroom), hlG]
    show Steps p.tables e below ((fillInside (T.setVm vm1) (F0 m pc ls rest) mG a cell).setTop (fillJ mG a 0 [])) t
    jvm_step (hAof vm1 hW1) [hexec, hbG, gd_0, Value.isRef]
    refine st2 t ?_
    show Steps p.tables e below ((fillInside (T.setVm vm2) (F0 m pc ls rest) mG a cell).setTop (fillJ mG a 4 [v])) t
    jvm_step (hAof vm2 hW2) [hexec, hbG, gd_4, Value.isRef]
    have hs12 : Steps p.tables e below ((fillInside (T.setVm vm2) (F0 m pc ls rest) mG a cell).setTop (fillJ mG a 12 [])) t := by
      jvm_step (hAof vm2 hW2) [hexec, hbG, gd_12, Value.isRef]
      exact st3 t hs9
    cases v with
    | ref b =>
      have hne : b ≠ a := fun q => hva (by rw [q])
      jvm_step (hAof vm2 hW2) [hexec, hbG, gd_5, if_acmp.wp_sem, Value.asRef?, Op.if_acmp.holds, hne]
      exact hs12
    | null =>
      jvm_step (hAof vm2 hW2) [hexec, hbG, gd_5, if_acmp.wp_sem, Value.asRef?, Op.if_acmp.holds]
      exact hs12
    | _ => simp [Value.isRef] at hv
end ZCs
section ZCs2
variable {y : MethodName} {cc : ByteArray} {nL : Nat} {ret : Option FieldType} {hh : List (Nat × Nat × Nat × Nat)} {d kc ks : Nat} {X : zX} {Q : zO → zH → Prop} {h : zH} {k n pc : Nat} {env : List (Nat × Value)} {st : List Value}
theorem z_cause (K : zK y cc nL ret hh d kc ks X) {q ci idx : Nat} {fs : List Value} {C : String} {v : Value} (th : zthr ci C) (hl : Cond.methodLink y.cls idx yGetCause ∈ lw_all) (hq : h q = some (.inr (ci, fs))) (h8 : 1000 ≤ q) (h0 : fs[0]? = some v) (hv : zisr v = true) (hvd : ∀ b, v = .ref b → b ≠ q → 8 < b) (hd : 1 ≤ d) (hcat : (st.map fun v => v.category).sum ≤ 8) (dd : decode cc pc = .ok (.invokevirtual idx, 3)) (kk : zW X Q h k n (pc + 3) env ((if v = .ref q then .null else v) :: st)) : zW X Q h k n pc env (.ref q :: st) := by
  obtain ⟨p, l, e, R, s, m, args, below, meth, c, D, dA, r0, A, mc, ms⟩ := X
  obtain ⟨hx, hb, hml, hrt, hlk, hnm, hown, hts, hN, hNc, hK, hA0, hfl, hR, hmc, hms, hG, hTb⟩ := K
  intro r H locs ls st' g0 g1 g2 g3 g4 g5
  obtain ⟨a, rest, gr, rfl, g6⟩ := zvs_r g5
  obtain ⟨T, N, hz, hN4, hT0, hT1, hT4, hsF, hs0, hsC, hin, hmk⟩ := th
  have hat := g1.at hq gr
  obtain ⟨fs', hfs, r9, hr9, cell, q1, q2, q3, q4⟩ := zobj hat hz
  have e9 : r9 = (C, T, N) := Option.some.inj (hr9.symm.trans hz)
  subst e9
  obtain ⟨cell', m1, m2, m3⟩ := zmon hat hz hmk
  cases Option.some.inj (m1.symm.trans q1)
  obtain ⟨hS, hfc, kC, hkC, hkind⟩ := hK.1 ci _ hz
  have hS : ∀ k, k < N → SlotIs s (T k).1 (T k).2.1 (T k).2.2.1 (D.2 ci k) := hS
  have q4 : ∀ k, k < N → cell.slots[D.2 ci k]? = some (vp_V fs' k) := q4
  obtain ⟨v', b1, b2⟩ := hfs.at h0
  have hvr : v'.isRef = true := by
    cases v with
    | ref b => obtain ⟨a3, -, rfl⟩ := b2; rfl
    | null => have b2 : v' = .null := b2; rw [b2]; rfl
    | _ => cases hv
  refine w_cause (v := v') hx hb hown (hts _ hl) (hts _ q1756) (hts _ q1768) (hts _ q744) (hts _ q696) (hts _ q706) (hts _ hsC) q1 (by rw [q2]; exact hfc) q3 m2 m3 ?_ hvr g4.1 dd (by rw [hR]; exact hd) ?_ (kk r H locs ls _ g0 g1 g2 g3 g4 ?_)
  · intro ck k0 i f hf
    obtain ⟨cf, kf, fi, fd, hi, hsl⟩ := hS 0 (by omega)
    rw [hT0] at hi
    cases Option.some.inj (hi.symm.trans hf)
    rw [hsl, q4 0 (by omega)]
    unfold vp_V
    rw [List.getD_eq_getElem?_getD, b1]
    rfl
  · have := zvs.cat8 g6 hcat
    rw [hR]
    show _ ≤ 64 * d
    omega
  · refine zvs.c ?_ g6
    cases v with
    | ref b =>
      obtain ⟨a3, b3, rfl⟩ := b2
      by_cases e : b = q
      · subst e
        rw [if_pos rfl, if_pos (by rw [Option.some.inj (b3.symm.trans gr)])]
        exact rfl
      · rw [if_neg (fun z => e (by cases z; rfl)), if_neg (fun z => e (by cases z; exact (g1.2.1 q b a gr b3 h8 (Or.inr (hvd b rfl e))).symm))]
        exact ⟨a3, b3, rfl⟩
    | null =>
      have b2 : v' = .null := b2
      subst b2
      exact rfl
    | _ => cases hv
end ZCs2
