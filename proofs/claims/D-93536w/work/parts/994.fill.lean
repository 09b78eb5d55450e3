/-! ===== a row for the synchronized fillInStackTrace(), without stack traces: nothing changes ===== -/
section ZFill
variable {p : Program} {l : Launch} {e : Env} {R : Room} {s : State} {m : MethodId} {args : Array Value} {below : List Frame} {meth : Method} {c : Code} {H : Heap} {locs : List Loc} {cells slots : Nat} {Q : State → Prop}
theorem w_fill {cc : ByteArray} {pc : Nat} {ls : Array Slot} {rest : List Value} {a N : Nat} {cell : Cell} {C : String} {u0 : RefV}
    (hexec : p.tables.exec = Jvm.exec) (hb : c.code = cc) (hl : l.stackTraces = false) (hown : s.vm.findClass Bundle.tN = some m.cls)
    (hat : ∀ w ∈ Bundle.throwableAtoms, w.before args s = true)
    (h198 : (Cond.fieldLink Bundle.tN 198 Bundle.tN "backtrace" "Ljava/lang/Object;").before args s = true) (l198 : (Cond.lays Bundle.tN Bundle.tN "backtrace" "Ljava/lang/Object;").before args s = true)
    (hsF : (Cond.selects C Bundle.tFill Bundle.tFill).before args s = true) (hs0 : (Cond.selects C Bundle.tFill0 Bundle.tFill0).before args s = true)
    (hin : (Cond.instantiable C N).before args s = true) (hly : (Cond.lays C Bundle.tN "stackTrace" Bundle.steD).before args s = true)
    (hcell : H[a]? = some cell) (hcls : s.vm.findClass C = some cell.cls) (hvm : cell.vm = .none) (hown0 : cell.monitor.owner = none) (hcnt : cell.monitor.count = 0)
    (hst : ∀ ck k i f, s.fieldFound? Bundle.tN "stackTrace" Bundle.steD = some (ck, k, i, f) → cell.slots[f.slot]? = some u0.v)
    (hbk : ∀ ck k i f, s.fieldFound? Bundle.tN "backtrace" "Ljava/lang/Object;" = some (ck, k, i, f) → cell.slots[f.slot]? = some .null)
    (hun : ∀ ck k i f aS, s.fieldFound? Bundle.tN "UNASSIGNED_STACK" Bundle.steD = some (ck, k, i, f) → k.statics = some aS → aS ≠ a ∧ ∃ cS : Cell, H[aS]? = some cS ∧ cS.vm.isStatics = true ∧ cS.slots[f.slot]? = some u0.v)
    (hsize : ls.size = c.maxLocals) (hdg : decode cc pc = .ok (.invokevirtual 27, 3)) (hfr : 2 ≤ R.frames) (hlo : (rest.map fun v => v.category).sum + 40 ≤ R.locals)
    (kk : W p l e R s m args below meth c H locs cells slots Q (F0 m (pc + 3) ls (.ref a :: rest))) : W p l e R s m args below meth c H locs cells slots Q (F0 m pc ls (.ref a :: rest)) := by
  intro T hT X
  have htr : e.platform.stackTraces = false := (show e.platform.stackTraces = l.stackTraces by rw [X.admits.platform]).trans hl
  have howns : e.platform.frameOwnsMonitors = true := by rw [X.admits.platform]
  have hfin : e.platform.finalization = false := by rw [X.admits.platform]
  have hpl : e.platform.magicAccessors = ({} : Platform).magicAccessors := by rw [X.admits.platform]
  obtain ⟨TC, Z, L, LZ, Y⟩ := ThrowableC.of_atoms (args := args) howns hfin hpl hat
  have hcT : m.cls = TC.cT := Option.some.inj (hown.symm.trans Y.found)
  have hsel0 : selectMethod e.platform s.vm cell.cls TC.fill0 = .method TC.fill0 := by
    obtain ⟨c2, r2, m2, q1, q2, q3, q4, -⟩ := Cond.selects_spec hs0
    cases Option.some.inj (q1.symm.trans hcls)
    cases Option.some.inj (q2.symm.trans (State.methodFound?_of_named Y.fill0 (by decide)))
    cases Option.some.inj (q3.symm.trans Y.fill0)
    rw [Launch.admits_selectMethod X.admits]; exact q4
  obtain ⟨mk9, hmk9, hitf9, hselF⟩ : ∃ mk : Class, s.vm.classes[TC.fill.cls]? = some mk ∧ mk.isInterface = false ∧ selectMethod e.platform s.vm cell.cls TC.fill = .method TC.fill := by
    obtain ⟨c2, r2, m2, q1, q2, q3, q4, mk, q5, q6⟩ := Cond.selects_spec hsF
    cases Option.some.inj (q1.symm.trans hcls)
    cases Option.some.inj (q2.symm.trans (State.methodFound?_of_named Y.fill (by decide)))
    cases Option.some.inj (q3.symm.trans Y.fill)
    exact ⟨mk, q5, q6, by rw [Launch.admits_selectMethod X.admits]; exact q4⟩
  obtain ⟨hneS, cellS, hcS, hiS, hvU⟩ := hun _ _ _ _ _ Y.unassigned L.statics
  have hvS := hst _ _ _ _ Y.stack
  obtain ⟨c1, kX, hc1, hk, hord, -, -, hnN⟩ := Cond.instantiable_spec hin
  cases Option.some.inj (hc1.symm.trans hcls)
  obtain ⟨tyS, -⟩ := Cond.laysAt hcls hk Y.stack hly
  have htS : Takes s cell TC.fStack u0.v := ⟨(Array.getElem?_eq_some_iff.mp hvS).1, by simp [State.fitsSlot, State.slotType?, hvm, hk, hord, tyS]; rw [Y.stackType]; exact fits_refV_array _ u0⟩
  obtain ⟨ci198, i198, fB, hk198, hg198, ha198, hsB, -, hnB, htB, hffB⟩ := Cond.ownField (t := .object "java/lang/Object") Y.found L.cls (by decide +kernel) h198 l198 e.platform hpl
  have hskip : SkipFacts TC e.platform s (fun u => u) u0 (cell.withEntry T.cur) := ⟨{ ci198 := ci198, i198 := i198, fBack := fB }, ⟨hk198, hg198, ha198, hsB⟩, hbk _ _ _ _ hffB, fun _ _ => rfl⟩
  have hobj : ∀ k, cell.vm ≠ .statics k := fun k h => by rw [hvm] at h; cases h
  have hknown : cell.vm ≠ .unknown := fun h => by rw [hvm] at h; cases h
  have hknownS : cellS.vm ≠ .unknown := fun h => by rw [h] at hiS; cases hiS
  have hcellT : T.heap[a]? = some cell := by rw [hT]; exact hcell
  have hcST : T.heap[TC.aS]? = some cellS := by rw [hT]; exact hcS
  obtain ⟨vm1, hW1, st1⟩ := Steps.invokeVirtualCold (tb := p.tables) (e := e) (below := below) (s₀ := s) (U := T) (c := c) (f := F0 m pc ls (.ref a :: rest)) (args := []) (rest := rest) (a := a) (cell := cell) (r := TC.fill) (m := TC.fill) X.here hexec (by show decode c.code pc = _; rw [hb]; exact hdg) X.warmed
    (by show s.vm.MethodLinks e.platform m.cls 27 _ _; rw [hcT]; exact L.mlink27) (by show s.rightAt m.cls 27 _ = true; rw [hcT]; exact L.mright27) L.notHandle (by show s.vm.classes[m.cls]? = _; rw [hcT]; exact L.cls) L.file L.pool27 L.cls L.notInterface (L.method L.fillAt) L.fillStatic (by rw [L.fillParams]; rfl) rfl hcellT hobj hselF (L.method L.fillAt) L.fillAbstract hmk9 hitf9
  have X1 := X.noted hW1
  have hfr1 := X1.framesAbove (n := 1) (by omega)
  have hst1 := X1.stackAbove (g := F0 m pc ls rest) hsize (K := 40) (by show 2 * 0 + (rest.map fun v => v.category).sum + 40 ≤ R.locals; omega)
  obtain ⟨g0, hg0⟩ := X1.frames_eq
  have htop : (T.setVm vm1).topJava?.isSome := by rw [State.topJava?_of_frames hg0]; rfl
  have hfg : ((T.setVm vm1).setTop (F0 m pc ls rest)).frames = .java (F0 m pc ls rest) :: (T.setVm vm1).frames.tail := by rw [State.frames_setTop _ hg0, hg0]; rfl
  have hlen : (T.setVm vm1).frames.length = (Frame.java (F0 m pc ls rest) :: (T.setVm vm1).frames.tail).length := by rw [hg0]; rfl
  have hlimg : e.platform.stackLimits ((T.setVm vm1).setTop (F0 m pc ls rest)).me = e.platform.stackLimits (T.setVm vm1).me := by rw [State.stackLimits_setTop _ htop]
  have hroom : e.platform.stackFull ((((T.setVm vm1).setTop (F0 m pc ls rest)).threads[((T.setVm vm1).setTop (F0 m pc ls rest)).cur]?).getD { frames := [] }) ((T.setVm vm1).setTop (F0 m pc ls rest)).frames (1 + 2) = false :=
    Jvm.roomAbove (pushed := []) (base := .java (F0 m pc ls rest) :: (T.setVm vm1).frames.tail) (free := 40) (lim := e.platform.stackLimits (T.setVm vm1).me) hfg hlimg (by rw [← hlen]; simp only [List.length_nil]; omega) hst1 (by simp only [stackUse_nil]; omega)
  obtain ⟨vm2, hW2, st2⟩ := Steps.fillColdAnyV p (self := a) (below := below) (s₀ := s) (V := T.setVm vm1) (g := F0 m pc ls rest) (c := c) X1.here hexec TC L hW1 (Nn := fun u => u) heapOnly_id (fun _ _ => rfl) (fun _ => rfl) (fun u x y => setCell_twice _ _ _ _) (cell := cell) (cellS := cellS) (cN := cell.withEntry T.cur) (u0 := u0) (ig := .invokevirtual 27) (len := 3) [] hcellT hobj hknown (Or.inl hown0) hvS hsel0 hcST hneS hknownS hvU (fun _ hu => hu) (fun _ hu => hu) rfl rfl rfl (by simp [Cell.withEntry]) htS (by show decode c.code pc = _; rw [hb]; exact hdg)
    (fun _ vm3 hW3 hA3 t' hrest => L.nativeOff p htr hA3 hW3 (by
      have hfF : (fillInside ((T.setVm vm1).setVm vm3) (F0 m pc ls rest) TC.fill a cell).frames = .java (entryFrameSync TC.fill #[.ref a] 1 a) :: .java (F0 m pc ls rest) :: (T.setVm vm1).frames.tail := by
        rw [show (fillInside ((T.setVm vm1).setVm vm3) (F0 m pc ls rest) TC.fill a cell).frames = _ from frames_entered (g := F0 m pc ls rest) (show (((T.setVm vm1).setVm vm3).setCell a (cell.withEntry ((T.setVm vm1).setVm vm3).cur)).topJava?.isSome from htop) _]
        rfl
      have htopF : (fillInside ((T.setVm vm1).setVm vm3) (F0 m pc ls rest) TC.fill a cell).topJava?.isSome := by rw [State.topJava?_of_frames hfF]; rfl
      have hlimF : e.platform.stackLimits (fillInside ((T.setVm vm1).setVm vm3) (F0 m pc ls rest) TC.fill a cell).me = e.platform.stackLimits (T.setVm vm1).me := by
        rw [State.stackLimits_pushFrame, State.stackLimits_setTop _ (show (((T.setVm vm1).setVm vm3).setCell a (cell.withEntry ((T.setVm vm1).setVm vm3).cur)).topJava?.isSome from htop)]; rfl
      exact Jvm.roomAbove (pl := e.platform) (u := (fillInside ((T.setVm vm1).setVm vm3) (F0 m pc ls rest) TC.fill a cell).setTop (fillJ TC.fill a 16 [])) (vars := nativeFrameWords "java/lang/Throwable" "fillInStackTrace" 2) (pushed := [.java (fillJ TC.fill a 16 [])]) (base := .java (F0 m pc ls rest) :: (T.setVm vm1).frames.tail) (free := 40) (lim := e.platform.stackLimits (T.setVm vm1).me) (State.frames_setTop _ hfF) (by rw [State.stackLimits_setTop _ htopF]; exact hlimF)
        (by rw [← hlen]; simp only [List.length_cons, List.length_nil]; omega) hst1 (by rw [show (stackUse [Frame.java (fillJ TC.fill a 16 [])]).2 = 14 by rw [stackUse_java, stackUse_nil]; simp [operandWords]]; decide)) hrest) hroom hskip
  have X2 := X1.noted hW2
  have hback : ((cell.withEntry T.cur).setSlot TC.fStack.slot u0.v).left = cell := by rw [Cell.left_setSlot_withEntry T.cur _ _ hown0 hcnt, Cell.setSlot_same hvS]
  obtain ⟨t, hs9, hq9⟩ := kk ((T.setVm vm1).setVm vm2) hT X2
  refine ⟨t, st1 t (st2 t ?_), hq9⟩
  rw [hback, State.setCell_asItLies (show ((T.setVm vm1).setVm vm2).heap[a]? = some cell from hcellT)]
  exact hs9
end ZFill
section ZFill2
/-- the words that the machine's Throwable needs -/
theorem zTA {A : Nat → Prop} {r : zR} {s : State} {args : Array Value} (hts : ∀ w ∈ lw_all, w.before args s = true) (hG : zG A r s) : ∀ w ∈ Bundle.throwableAtoms, w.before args s = true := by
  obtain ⟨-, -, ad, -, -, hU, hS⟩ := hG
  intro w hw
  have hw : w ∈ [Cond.initialized Bundle.tN, .superclass Bundle.tN "java/lang/Object", .instanceMethod Bundle.tFill, .codeSync Bundle.tFill LibCode.Throwable.Fill.code 1 (some (.object Bundle.tN)), .instanceMethod Bundle.tFill0, .native Bundle.tFill0, .instanceMethod Bundle.tInit0, .code Bundle.tInit0 LibCode.Throwable.Init0.code 1 none, .instanceMethod Bundle.oInit, .code Bundle.oInit ⟨#[0xb1]⟩ 1 none, .methodLink Bundle.tN 1 Bundle.oInit, .methodLink Bundle.tN 27 Bundle.tFill, .methodLink Bundle.tN 202 Bundle.tFill0, .fieldLink Bundle.tN 7 Bundle.tN "cause" "Ljava/lang/Throwable;", .lays Bundle.tN Bundle.tN "cause" "Ljava/lang/Throwable;", .fieldLink Bundle.tN 17 Bundle.tN "stackTrace" Bundle.steD, .lays Bundle.tN Bundle.tN "stackTrace" Bundle.steD, .fieldLink Bundle.tN 24 Bundle.tN "suppressedExceptions" Bundle.listD, .lays Bundle.tN Bundle.tN "suppressedExceptions" Bundle.listD, .fieldLink Bundle.tN 13 Bundle.tN "UNASSIGNED_STACK" Bundle.steD, .laysStatic Bundle.tN "UNASSIGNED_STACK" Bundle.steD, .fieldLink Bundle.tN 20 Bundle.tN "SUPPRESSED_SENTINEL" Bundle.listD, .laysStatic Bundle.tN "SUPPRESSED_SENTINEL" Bundle.listD, .lays Bundle.tN Bundle.tN "detailMessage" "Ljava/lang/String;"] := hw
  simp only [List.mem_cons, List.not_mem_nil, or_false] at hw
  rcases hw with rfl | rfl | rfl | rfl | rfl | rfl | rfl | rfl | rfl | rfl | rfl | rfl | rfl | rfl | rfl | rfl | rfl | rfl | rfl | rfl | rfl | rfl | rfl | rfl
  · exact hts _ q104
  · exact hts _ q706
  · exact hts _ q715
  · exact hts _ q726
  · exact hts _ q729
  · exact hts _ q731
  · exact hts _ q707
  · exact hts _ q708
  · exact hts _ q138
  · exact hts _ q139
  · exact hts _ q709
  · exact hts _ q714
  · exact hts _ q727
  · exact hts _ q744
  · exact hts _ q696
  · exact hts _ q745
  · exact hts _ q698
  · exact hts _ q746
  · exact hts _ q700
  · exact hts _ q710
  · exact hU.word
  · exact hts _ q712
  · exact hS.word
  · exact hts _ q702
abbrev yGetCause : MethodName := ⟨"java/lang/Throwable", "getCause", "()Ljava/lang/Throwable;"⟩
/-- the classes of what can be thrown -/
def zthr (ci : Nat) (C : String) : Prop := ∃ (T : u_T) (N : Nat), zcl[ci]? = some (C, T, N) ∧ 4 < N ∧ T 0 = ("java/lang/Throwable", "cause", "Ljava/lang/Throwable;", false) ∧ T 1 = ("java/lang/Throwable", "stackTrace", "[Ljava/lang/StackTraceElement;", false) ∧ T 4 = ("java/lang/Throwable", "backtrace", "Ljava/lang/Object;", false) ∧ Cond.selects C Bundle.tFill Bundle.tFill ∈ lw_all ∧ Cond.selects C Bundle.tFill0 Bundle.tFill0 ∈ lw_all ∧ Cond.selects C yGetCause yGetCause ∈ lw_all ∧ Cond.instantiable C N ∈ lw_all ∧ zmk ci = true
theorem thr_7 : zthr 7 "SetupJobShop$Failure" := ⟨_, _, rfl, by decide, rfl, rfl, rfl, q719, q1083, q1760, q1081, rfl⟩
theorem thr_8 : zthr 8 "SetupJobShop$Cycle" := ⟨_, _, rfl, by decide, rfl, rfl, rfl, q718, q1061, q1759, q1059, rfl⟩
theorem thr_14 : zthr 14 "SetupJobShop$TextFault" := ⟨_, _, rfl, by decide, rfl, rfl, rfl, q721, q1644, q1762, q1642, rfl⟩
theorem thr_16 : zthr 16 "SetupJobShop$BadJob" := ⟨_, _, rfl, by decide, rfl, rfl, rfl, q717, q1701, q1758, q1699, rfl⟩
theorem thr_17 : zthr 17 "SetupJobShop$Refused" := ⟨_, _, rfl, by decide, rfl, rfl, rfl, q720, q1734, q1761, q1732, rfl⟩
theorem thr_22 : zthr 22 "java/lang/IllegalArgumentException" := ⟨_, _, rfl, by decide, rfl, rfl, rfl, q694, q693, q1764, q685, rfl⟩
theorem thr_23 : zthr 23 "java/lang/IllegalStateException" := ⟨_, _, rfl, by decide, rfl, rfl, rfl, q723, q761, q1765, q759, rfl⟩
theorem thr_24 : zthr 24 "java/lang/IndexOutOfBoundsException" := ⟨_, _, rfl, by decide, rfl, rfl, rfl, q724, q820, q1766, q818, rfl⟩
theorem thr_25 : zthr 25 "java/util/NoSuchElementException" := ⟨_, _, rfl, by decide, rfl, rfl, rfl, q725, q940, q1767, q938, rfl⟩
section ZF3
variable {y : MethodName} {cc : ByteArray} {nL : Nat} {ret : Option FieldType} {hh : List (Nat × Nat × Nat × Nat)} {d kc ks : Nat} {X : zX} {Q : zO → zH → Prop} {h : zH} {k n pc : Nat} {env : List (Nat × Value)} {st : List Value}
theorem zvs.cat8 {r : zR} {l m : List Value} (h : zvs r l m) (h8 : (l.map fun v => v.category).sum ≤ 8) : (m.map fun v => v.category).sum ≤ 8 := by rw [h.cats]; exact h8
theorem z_fill (K : zK y cc nL ret hh d kc ks X) {q ci : Nat} {fs : List Value} {C : String} (hy : y.cls = "java/lang/Throwable") (th : zthr ci C) (hq : h q = some (.inr (ci, fs))) (h8 : 1000 ≤ q) (h4 : fs[4]? = some .null) (h1 : (∃ c0, h 3 = some c0 ∧ fs[1]? = some (.ref 3)) ∨ (∃ c0, h 23 = some c0 ∧ fs[1]? = some .null)) (hd : 2 ≤ d) (hcat : (st.map fun v => v.category).sum ≤ 8) (dd : decode cc pc = .ok (.invokevirtual 27, 3)) (kk : zW X Q h k n (pc + 3) env (.ref q :: st)) : zW X Q h k n pc env (.ref q :: st) := by
  obtain ⟨p, l, e, R, s, m, args, below, meth, c, D, dA, r0, A, mc, ms⟩ := X
  obtain ⟨hx, hb, hml, hrt, hlk, hnm, hown, hts, hN, hNc, hK, hA0, hfl, hR, hmc, hms, hG, hTb⟩ := K
  intro r H locs ls st' g0 g1 g2 g3 g4 g5
  obtain ⟨a, rest, gr, rfl, g6⟩ := zvs_r g5
  obtain ⟨T, N, hz, hN4, hT0, hT1, hT4, hsF, hs0, -, hin, hmk⟩ := th
  have hat := g1.at hq gr
  obtain ⟨fs', hfs, r9, hr9, cell, q1, q2, q3, q4⟩ := zobj hat hz
  have e9 : r9 = (C, T, N) := Option.some.inj (hr9.symm.trans hz)
  subst e9
  obtain ⟨cell', m1, m2, m3⟩ := zmon hat hz hmk
  cases Option.some.inj (m1.symm.trans q1)
  obtain ⟨w, hZ, hw1, hw2⟩ := hG.1 _ zst_1
  obtain ⟨hS, hfc, kC, hkC, hkind⟩ := hK.1 ci _ hz
  have hS : ∀ k, k < N → SlotIs s (T k).1 (T k).2.1 (T k).2.2.1 (D.2 ci k) := hS
  have q4 : ∀ k, k < N → cell.slots[D.2 ci k]? = some (vp_V fs' k) := q4
  have hv1 : fs'[1]? = some w ∧ w.isRef = true := by
    rcases h1 with ⟨c0, e3, e1⟩ | ⟨c0, e3, e1⟩
    · obtain ⟨w', b1, a3, b2, b3⟩ := hfs.at e1
      have : w = .ref a3 := hw1 a3 (by rw [← g0.eq (by decide)]; exact b2)
      rw [this, ← b3]
      exact ⟨b1, by rw [b3]; rfl⟩
    · obtain ⟨w', b1, b2⟩ := hfs.at e1
      have b2 : w' = .null := b2
      have : w = .null := hw2 (by
        rw [← g0.eq (show 3 + 20 < 1000 by decide)]
        intro z
        have := (g1.1 (3 + 20)).mpr z
        rw [show h (3 + 20) = some c0 from e3] at this
        cases this)
      rw [this, ← b2]
      exact ⟨b1, by rw [b2]; rfl⟩
  have hv4 : fs'[4]? = some .null := by
    obtain ⟨w', b1, b2⟩ := hfs.at h4
    have b2 : w' = .null := b2
    rw [b1, b2]
  have hlay := (zcl_ok hz).1 _ (u_in_lay (C := C) (T := T) (N := N) (k := 1) (by omega))
  unfold u_lay at hlay
  rw [hT1, if_neg (by decide)] at hlay
  refine w_fill (u0 := ⟨w, hv1.2⟩) hx hb (by unfold Launch.stackTraces; rw [hfl]; decide) (by have q := hown; rw [hy] at q; exact q) (zTA hts hG) (hts _ q705) (hts _ q704) (hts _ hsF) (hts _ hs0) (hts _ hin) (hts _ hlay) q1 (by rw [q2]; exact hfc) q3 m2 m3 ?_ ?_ ?_ g4.1 dd (by rw [hR]; exact hd) ?_ (kk r H locs ls _ g0 g1 g2 g3 g4 (zvs.r gr g6))
  · intro ck k0 i f hf
    obtain ⟨cf, kf, fi, fd, hi, hsl⟩ := hS 1 (by omega)
    rw [hT1] at hi
    cases Option.some.inj (hi.symm.trans hf)
    rw [hsl, q4 1 (by omega)]
    unfold vp_V
    rw [List.getD_eq_getElem?_getD]
    show some (fs'[1]?.getD .null) = some w
    rw [hv1.1]
    rfl
  · intro ck k0 i f hf
    obtain ⟨cf, kf, fi, fd, hi, hsl⟩ := hS 4 (by omega)
    rw [hT4] at hi
    cases Option.some.inj (hi.symm.trans hf)
    rw [hsl, q4 4 (by omega)]
    unfold vp_V
    rw [List.getD_eq_getElem?_getD, hv4]
    rfl
  · intro ck k0 i f aS hf hst
    obtain ⟨cf, kf, fi, f9, a9, cS, z1, z2, z3, z4, z5, z6, z7, z8⟩ := hZ
    cases Option.some.inj (z1.symm.trans hf)
    cases Option.some.inj (z4.symm.trans hst)
    have hAa : A a := g2.1 q a h8 gr
    refine ⟨fun e => z8 (by rw [e]; exact hAa), cS, ?_, z6, z7⟩
    rw [g3.2.1 aS (Array.getElem?_eq_some_iff.mp z5).1 z8]
    exact z5
  · have := zvs.cat8 g6 hcat
    rw [hR]
    show _ ≤ 64 * d
    omega
end ZF3
end ZFill2
