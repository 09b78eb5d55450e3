/-! ===== calls ===== -/
def zx_Pre (D : va_G) (dA : Nat → ClassId) (r0 : zR) (A : Nat → Prop) (R : Room) (mc ms : Nat) (as : List Value) (h : zH) : Pt → Array Value → Prop := fun P a => P.cells + mc ≤ R.cells ∧ P.slots + ms ≤ R.slots ∧ zPc D dA r0 A as h a P.U
def zx_Post (D : va_G) (dA : Nat → ClassId) (r0 : zR) (A : Nat → Prop) (mc ms : Nat) (Q : zO → zH → Prop) : Pt → Array Value → Option Value → Pt → Prop := fun P _ v B =>
  ∃ (st₀ t : State) (L : List Loc) (v0 : Option Value) (r' : zR) (h' : zH), st₀.heap = P.U.heap ∧ B.U.heap = t.heap ∧ B.U.vm = t.vm ∧ zvo r' v0 v ∧ Q (.inl v0) h' ∧ zsb r0 r' ∧ zS D dA r' h' t.heap ∧ zA A r' ∧ va_F A st₀ t ∧ B.locs = P.locs ++ L ∧ (∀ q ∈ L, A q.base) ∧ B.cells = P.cells + mc ∧ B.slots = P.slots + ms
def zx_PostX (D : va_G) (dA : Nat → ClassId) (r0 : zR) (A : Nat → Prop) (mc ms : Nat) (Q : zO → zH → Prop) : Pt → Array Value → Addr → Pt → Prop := fun P _ q B =>
  ∃ (st₀ t : State) (L : List Loc) (n : Nat) (r' : zR) (h' : zH) (E : String) (ce : Cell), st₀.heap = P.U.heap ∧ B.U.heap = t.heap ∧ B.U.vm = t.vm ∧ r' n = some q ∧ Q (.inr n) h' ∧ zsb r0 r' ∧ zS D dA r' h' t.heap ∧ zA A r' ∧ va_F A st₀ t ∧ t.heap[q]? = some ce ∧ ce.vm = .none ∧ P.U.vm.findClass E = some ce.cls ∧ B.locs = P.locs ++ L ∧ (∀ q ∈ L, A q.base) ∧ B.cells = P.cells + mc ∧ B.slots = P.slots + ms
theorem zPc.blind {D : va_G} {dA : Nat → ClassId} {r0 : zR} {A : Nat → Prop} {as : List Value} {h : zH} : FrameBlind (zPc D dA r0 A as h) := by
  intro a U g mk hp
  obtain ⟨h1, h2, h3, h4, h5, h6, h7, h8⟩ := hp
  exact ⟨h1, h2, h3, h4, va_K.moved (u := U) (U := U.calling g mk a) (Vm.Alike.refl U.vm) h5, zN.same (s := U) (U := U.calling g mk a) rfl h6, zNc.moved (s := U) (U := U.calling g mk a) (Vm.Alike.refl U.vm) h7, zG.moved0 (s := U) (U := U.calling g mk a) (Vm.Alike.refl U.vm) zsb.rf (fun _ _ _ => rfl) h8⟩
section Zback
variable {l : Launch} {R : Room} {p : Program} {e : Env} {below : List Frame} {s : State} {sargs : Array Value} {y : MethodName} {len : Nat}
theorem zx_back {ws : List Cond} {d mc ms : Nat} {as as' : List Value} {h : zH} {Q : zO → zH → Prop} {D : va_G} {dA : Nat → ClassId} {r0 : zR} {A : Nat → Prop} {bytes : ByteArray} {maxL : Nat} {ret : Option FieldType}
    (hM : zMet y ws d as h Q mc ms) (hfl : l.flags = flags0) (has : zvs r0 as as')
    (hframes : d + 1 ≤ R.frames) (hlocals : 8 + (maxL + 11) + 64 * d ≤ R.locals)
    (hws : ∀ w ∈ ws, ∀ a' U, s.WarmedH U.vm → w.before a' U = true) (hcode : Cond.code y bytes maxL ret ∈ ws ∨ ∃ hh, Cond.codeWith y bytes maxL ret hh ∈ ws) (hinit : ∀ a' U, s.WarmedH U.vm → (Cond.initialized y.cls).before a' U = true) :
    vx_Back l R p e below s sargs y len 8 (zx_Pre D dA r0 A R mc ms as' h) (zx_Post D dA r0 A mc ms Q) (zx_PostX D dA r0 A mc ms Q) := by
  have hM := hM l D dA r0 A as' hfl has
  intro m meth c P g ig mk a X hg hsize hdg hW hn hp
  have h1 : (headSpec ws (zRm d mc ms)).pre.before a P.U = true := atoms_intro fun w hw => hws w hw _ _ X.warmed
  have h3 : (Cond.initialized y.cls).before a P.U = true := hinit _ _ X.warmed
  have h4 : P.cells + (headSpec ws (zRm d mc ms)).room.cells ≤ R.cells := hp.1
  have h5 : P.slots + (headSpec ws (zRm d mc ms)).room.slots ≤ R.slots := hp.2.1
  have hPc : zPc D dA r0 A as' h a (P.U.calling g mk a) := zPc.blind _ _ _ _ hp.2.2
  have hY : ∃ (methY : Method) (cY : Code), P.U.vm.method? mk = some methY ∧ methY.code = some cY ∧ cY.maxLocals = maxL := by
    rcases hcode with hc | ⟨hh, hc⟩
    · obtain ⟨methY, cY, hmY, hcY, -, hlY, -, -, -, -⟩ := Cond.code_spec hn (hws _ hc a _ X.warmed)
      exact ⟨methY, cY, hmY, hcY, hlY⟩
    · obtain ⟨m9, methY, cY, hn9, hmY, hcY, -, hlY, -⟩ := Cond.codeWith_spec (hws _ hc a _ X.warmed)
      cases Option.some.inj (hn9.symm.trans hn)
      exact ⟨methY, cY, hmY, hcY, hlY⟩
  obtain ⟨U, Ls, c0, s0⟩ := P
  dsimp only [Pt.U, Pt.locs, Pt.cells, Pt.slots] at h1 h3 h4 h5 X hn hPc hY ⊢
  obtain ⟨methY, cY, hmY, hcY, hlY⟩ := hY
  obtain ⟨kY, hkY, -⟩ := className_of_methodNamed hn
  have hinitY : kY.init = .initialized := Cond.initialized_spec (findClass_of_methodNamed hn) hkY h3
  have h : At U g.method c below := by rw [hg]; exact X.here
  have hlocals9 : 8 + (maxL + 11) + (headSpec ws (zRm d mc ms)).room.locals ≤ R.locals := hlocals
  have happ : (headSpec ws (zRm d mc ms)).appliesLoose y e.platform (U.calling g mk a) = true :=
    Spec.appliesLoose_calling (g := g) h hdg hn hkY hinitY
      (X.room_calling (g := g) (R' := (headSpec ws (zRm d mc ms)).room) hsize hmY hcY hframes (by rw [hlY]; omega) h4 h5) h1
  obtain ⟨mid, hmid⟩ := h.above
  have hfr : (U.setTop g).frames = (.java g :: mid) ++ below := by rw [State.frames_setTop' g h.top, hmid]; rfl
  obtain ⟨o, s₂, hsteps, -, hend, hq⟩ := Steps.callFree hM p X.admits X.cas X.clock (acts := []) hfr happ hPc trivial
  have hq' : zPost D dA r0 A mc ms Q (U.calling g mk a) o s₂ := hq
  rw [State.frames_setTop' g h.top] at hend
  obtain ⟨g₀, hg0⟩ := Option.isSome_iff_exists.mp h.top
  obtain ⟨r, hr⟩ := State.topJava?_eq_some.mp hg0
  have hr' : (({ U with heap := s₂.heap, slotsUsed := s₂.slotsUsed } : State).setVm s₂.vm).frames = .java g₀ :: r := hr
  rcases hq' with ⟨v0, v, r', h', rfl, hvv, hQ, hsb, hzS, hzA, hF, L, hfe, hL⟩ | ⟨nq, q, r', h', E, ce, L, rfl, hrq, hQ, hsb, hzS, hzA, hF, hce, hcv, hcl, hW₂, hsm, hL⟩
  · obtain ⟨⟨v9, ev9⟩, hW₂, e2, q2, q3, q4, q5, q6⟩ := id hfe
    cases ev9
    have e3 : s₂ = ({ (U.calling g mk a).setFrames s₂.frames with heap := s₂.heap, slotsUsed := s₂.slotsUsed } : State).setVm s₂.vm := by
      have : s₂ = ({ s₂ with vm := (U.calling g mk a).vm } : State).setVm s₂.vm := rfl
      rw [e2] at this
      exact this
    obtain ⟨c₂, i₂, len₂, hc₂, hd₂, hf₂⟩ := hend
    have hW' : U.WarmedH s₂.vm := hW₂
    have hcc : c₂ = c := by
      have h1 : s₂.code? g.method = U.code? g.method := by
        rw [State.code?_eq, State.code?_eq, hW'.alike.method?]
      exact Option.some.inj (hc₂.symm.trans (h1.trans h.code))
    subst hcc
    have hlen : len₂ = len := by rw [hdg] at hd₂; cases hd₂; rfl
    subst hlen
    have hs₂ : s₂ = (({ U with heap := s₂.heap, slotsUsed := s₂.slotsUsed } : State).setVm s₂.vm).setTop { g with pc := g.pc + len₂, stack := v.toList ++ g.stack } := by
      refine e3.trans ?_
      rw [hf₂, State.calling_eq h.top, State.setFrames_setFrames, State.setTop_of_frames _ hr', hr]
      rfl
    have hsame : U.sameButNew ({ U with heap := s₂.heap, slotsUsed := s₂.slotsUsed } : State) L mc ms := by
      refine ⟨?_, q2, q3, q4, q5, q6⟩
      obtain ⟨t, ht, -⟩ := State.frames_cons hr
      show ({ U with heap := s₂.heap, slotsUsed := s₂.slotsUsed } : State) = { U.setFrames U.frames with heap := s₂.heap, slotsUsed := s₂.slotsUsed }
      rw [State.setFrames_self ht]
    subst hg
    refine Or.inl ⟨v, ⟨(({ U with heap := s₂.heap, slotsUsed := s₂.slotsUsed } : State).setVm s₂.vm), Ls ++ L, c0 + mc, s0 + ms⟩,
      ⟨X.admits, X.cas, X.clock, X.frames, X.room, X.hears, X.method, X.code, (X.here.setHeapUsed s₂.heap s₂.slotsUsed).setVm hW'.alike, X.tail, State.WarmedH.trans X.warmed hW', X.limits, X.bytes, X.same.trans (hsame.setVm s.vm)⟩,
      ⟨U.calling g mk a, s₂, L, v0, r', h', rfl, rfl, rfl, hvv, hQ, hsb, hzS, hzA, hF, rfl, hL, rfl, rfl⟩, ?_⟩
    show Steps p.tables e below _ ((({ U with heap := s₂.heap, slotsUsed := s₂.slotsUsed } : State).setVm s₂.vm).setTop { g with pc := g.pc + len₂, stack := v.toList ++ g.stack })
    rw [← hs₂]
    exact hsteps
  · obtain ⟨e2, q2, q3, q4, q5, q6⟩ := id hsm
    have e3 : s₂ = ({ (U.calling g mk a).setFrames s₂.frames with heap := s₂.heap, slotsUsed := s₂.slotsUsed } : State).setVm s₂.vm := by
      have : s₂ = ({ s₂ with vm := (U.calling g mk a).vm } : State).setVm s₂.vm := rfl
      rw [e2] at this
      exact this
    have hf₂ : s₂.frames = .throwing q :: .java g :: U.frames.tail := hend
    have hW' : U.WarmedH s₂.vm := hW₂
    have hs₂ : s₂ = ((({ U with heap := s₂.heap, slotsUsed := s₂.slotsUsed } : State).setVm s₂.vm).setTop g).pushFrame (.throwing q) := by
      refine e3.trans ?_
      rw [hf₂, State.calling_eq h.top, State.setFrames_setFrames, State.pushFrame, State.frames_setTop _ hr', State.setTop_of_frames _ hr', State.setFrames_setFrames, hr]
      rfl
    have hsame : U.sameButNew ({ U with heap := s₂.heap, slotsUsed := s₂.slotsUsed } : State) L mc ms := by
      refine ⟨?_, q2, q3, q4, q5, q6⟩
      obtain ⟨t, ht, -⟩ := State.frames_cons hr
      show ({ U with heap := s₂.heap, slotsUsed := s₂.slotsUsed } : State) = { U.setFrames U.frames with heap := s₂.heap, slotsUsed := s₂.slotsUsed }
      rw [State.setFrames_self ht]
    subst hg
    refine Or.inr ⟨q, ⟨(({ U with heap := s₂.heap, slotsUsed := s₂.slotsUsed } : State).setVm s₂.vm), Ls ++ L, c0 + mc, s0 + ms⟩,
      ⟨X.admits, X.cas, X.clock, X.frames, X.room, X.hears, X.method, X.code, (X.here.setHeapUsed s₂.heap s₂.slotsUsed).setVm hW'.alike, X.tail, State.WarmedH.trans X.warmed hW', X.limits, X.bytes, X.same.trans (hsame.setVm s.vm)⟩,
      ⟨U.calling g mk a, s₂, L, nq, r', h', E, ce, rfl, rfl, rfl, hrq, hQ, hsb, hzS, hzA, hF, hce, hcv, hcl, rfl, hL, rfl, rfl⟩, ?_⟩
    show Steps p.tables e below _ (((({ U with heap := s₂.heap, slotsUsed := s₂.slotsUsed } : State).setVm s₂.vm).setTop g).pushFrame (.throwing q))
    rw [← hs₂]
    exact hsteps
end Zback

theorem zG.moved {A : Nat → Prop} {r0 r : zR} {s U : State} {locs : List Loc} (hvm : s.vm.Alike U.vm) (h0 : zsb r0 r) (hS : va_S A s.heap U.heap locs) (h : zG A r0 s) : zG A r U := zG.moved0 hvm h0 (fun a h1 h2 => hS.2.1 a h1 h2) h
section Zcall
variable {y : MethodName} {cc : ByteArray} {nL : Nat} {ret : Option FieldType} {hh : List (Nat × Nat × Nat × Nat)} {d kc ks : Nat} {X : zX} {Q : zO → zH → Prop} {h : zH} {k n pc : Nat} {env : List (Nat × Value)} {st : List Value}
/-- behind a call, whichever way it ends -/
theorem zx_after {p : Program} {l : Launch} {e : Env} {R : Room} {s : State} {m : MethodId} {args : Array Value} {below : List Frame} {meth : Method} {c : Code} {D : va_G} {dA : Nat → ClassId} {r0 r : zR} {A : Nat → Prop} {mc ms mc' ms' len : Nat} {H : Heap} {locs : List Loc} {ls : Array Slot} {st' stA : List Value} {Qc : zO → zH → Prop} {a : Array Value}
    (g0 : zsb r0 r) (g3 : va_S A s.heap H locs) (g4 : zE r c.maxLocals env ls) (g5 : zvs r st st')
    (hc : ∀ T : State, T.heap = H → Stand p l e R s m args below meth c T locs k n →
      (∃ (v : Option Value) (vm₁ : Vm) (B : Pt), s.WarmedH vm₁ ∧ Stand p l e R s m args below meth c B.U B.locs B.cells B.slots ∧ zx_Post D dA r A mc' ms' Qc ⟨T.setVm vm₁, locs, k, n⟩ a v B ∧
        ∀ target, Steps p.tables e below (B.U.setTop (F0 m (pc + len) ls (v.toList ++ st'))) target → Steps p.tables e below (T.setTop (F0 m pc ls stA)) target) ∨
      (∃ (q : Addr) (vm₁ : Vm) (B : Pt), s.WarmedH vm₁ ∧ Stand p l e R s m args below meth c B.U B.locs B.cells B.slots ∧ zx_PostX D dA r A mc' ms' Qc ⟨T.setVm vm₁, locs, k, n⟩ a q B ∧
        Steps p.tables e below (T.setTop (F0 m pc ls stA)) ((B.U.setTop (F0 m pc ls st')).pushFrame (.throwing q))))
    (kk : ∀ v h', Qc (.inl v) h' → zW (p, l, e, R, s, m, args, below, meth, c, D, dA, r0, A, mc, ms) Q h' (k + mc') (n + ms') (pc + len) env (v.toList ++ st))
    (kx : ∀ q h', Qc (.inr q) h' → zT (p, l, e, R, s, m, args, below, meth, c, D, dA, r0, A, mc, ms) Q h' (k + mc') (n + ms') pc env q) :
    W p l e R s m args below meth c H locs k n (zM (p, l, e, R, s, m, args, below, meth, c, D, dA, r0, A, mc, ms) Q) (F0 m pc ls stA) := by
  intro T hT X
  have keep : ∀ {st₀ t : State} {L : List Loc} {H' : Heap}, st₀.heap = H → H' = t.heap → va_F A st₀ t → (∀ q ∈ L, A q.base) → va_S A s.heap H' (locs ++ L) := by
    intro st₀ t L H' e1 e2 hF hL
    obtain ⟨hz, hk⟩ := hF
    rw [e1] at hz hk
    exact ⟨Nat.le_trans g3.1 (by rw [e2]; exact hz), fun q h1 h2 => by rw [e2, hk q (Nat.lt_of_lt_of_le h1 g3.1) h2]; exact g3.2.1 q h1 h2, fun q hq => by
      rcases List.mem_append.mp hq with h | h
      · exact g3.2.2 q h
      · exact hL q h⟩
  rcases hc T hT X with ⟨v, vm₁, ⟨U', l2, c2, s2⟩, hW, X', ⟨st₀, t, L, v0, r', h', e0, e1, e2, hv, hQ, hsb, hzS, hzA, hF, h1, hL, h2, h3⟩, hst⟩ | ⟨q, vm₁, ⟨U', l2, c2, s2⟩, hW, X', ⟨st₀, t, L, nq, r', h', E, ce, e0, e1, e2, hrq, hQ, hsb, hzS, hzA, hF, hce, hcv, hcl, h1, hL, h2, h3⟩, hst⟩
  · dsimp only [Pt.U, Pt.locs, Pt.cells, Pt.slots] at X' e0 e1 e2 h1 h2 h3 hst
    subst h1; subst h2; subst h3
    have e0 : st₀.heap = H := e0.trans hT
    have hvs : zvs r' (v0.toList ++ st) (v.toList ++ st') := by
      cases v0 with
      | none => have hv : v = none := hv; subst hv; exact g5.mono hsb
      | some u => obtain ⟨x, rfl, hux⟩ := hv; exact zvs.c hux (g5.mono hsb)
    obtain ⟨t2, a1, b1⟩ := kk v0 h' hQ r' U'.heap (locs ++ L) ls _ (g0.tr hsb) (by rw [e1]; exact hzS) hzA (keep e0 e1 hF hL) (g4.mono hsb) hvs U' rfl X'
    exact ⟨t2, hst t2 a1, b1⟩
  · dsimp only [Pt.U, Pt.locs, Pt.cells, Pt.slots] at X' e0 e1 e2 h1 h2 h3 hcl
    subst h1; subst h2; subst h3
    have e0 : st₀.heap = H := e0.trans hT
    have hcl : s.vm.findClass E = some ce.cls := vx_cls (T := T) hW hcl
    obtain ⟨t2, a1, b1⟩ := kx nq h' hQ r' U'.heap (locs ++ L) ls st' E ce q (g0.tr hsb) (by rw [e1]; exact hzS) hzA (keep e0 e1 hF hL) (g4.mono hsb) hrq (by rw [e1]; exact hce) hcv hcl U' rfl X'
    exact ⟨t2, hst.trans a1, b1⟩
/-- a call of the method z by the link idx of the class own: of an object of the class C; static; a constructor -/
def zcB (own : String) (idx : Nat) (z : MethodName) (bytes : ByteArray) (maxL : Nat) (rt : Option FieldType) (na : Nat) : Prop :=
  Cond.code z bytes maxL rt ∈ lw_all ∧ Cond.initialized z.cls ∈ lw_all ∧ (z.cls ≠ "java/lang/invoke/MethodHandle" ∧ z.cls ≠ "java/lang/invoke/VarHandle") ∧ (parseMethodDescriptor z.desc).map (fun d => d.parameters.length) = some na ∧ maxL ≤ 45 ∧ Cond.methodLink own idx z ∈ lw_all
def zcV (own : String) (idx : Nat) (C : String) (z : MethodName) (bytes : ByteArray) (maxL : Nat) (rt : Option FieldType) (na : Nat) : Prop :=
  zcB own idx z bytes maxL rt na ∧ Cond.instanceMethod z ∈ lw_all ∧ Cond.selects C z z ∈ lw_all
def zcS (own : String) (idx : Nat) (z : MethodName) (bytes : ByteArray) (maxL : Nat) (rt : Option FieldType) (na : Nat) : Prop :=
  zcB own idx z bytes maxL rt na ∧ Cond.static z ∈ lw_all
theorem zws {args : Array Value} {s : State} {z : MethodName} {bytes : ByteArray} {maxL : Nat} {rt : Option FieldType} (hts : ∀ w ∈ lw_all, w.before args s = true) (hc : Cond.code z bytes maxL rt ∈ lw_all) : ∀ w ∈ ws_ z bytes maxL rt, ∀ (a' : Array Value) (U : State), s.WarmedH U.vm → w.before a' U = true := pay_in hts (lw_meth hc)
theorem zlen {z : MethodName} {na : Nat} (h : (parseMethodDescriptor z.desc).map (fun d => d.parameters.length) = some na) {sig} (hs : parseMethodDescriptor z.desc = some sig) : na = sig.parameters.length := by
  rw [hs] at h
  exact (Option.some.inj h).symm
theorem zPc.call {D : va_G} {dA : Nat → ClassId} {r0 r : zR} {A : Nat → Prop} {as' : List Value} {s T : State} {vm₁ : Vm} {H : Heap} {locs : List Loc} (hT : T.heap = H) (hW : s.WarmedH vm₁) (g0 : zsb r0 r) (g1 : zS D dA r h H) (g2 : zA A r) (g3 : va_S A s.heap H locs) (hK : va_K D zcl (zty dA) s) (hA0 : ∀ q, s.heap.size ≤ q → A q) (hN : zN s) (hNc : zNc s) (hG : zG A r0 s) : zPc D dA r A as' h as'.toArray (T.setVm vm₁) := by
  subst hT
  exact ⟨rfl, g1, g2, fun q hq => hA0 q (Nat.le_trans g3.1 hq), va_K.moved hW.alike hK, zN.moved (U := T.setVm vm₁) hW hN, zNc.moved (U := T.setVm vm₁) hW.alike hNc, zG.moved (U := T.setVm vm₁) hW.alike g0 g3 hG⟩
theorem z_callV (K : zK y cc nL ret hh d kc ks X) {idx ci nm : Nat} {C : String} {z : MethodName} {bytes : ByteArray} {maxL : Nat} {rt : Option FieldType} {na d' mc' ms' : Nat} {as fs : List Value} {Qc : zO → zH → Prop} {stk : List Value}
    (hM : zMet z (ws_ z bytes maxL rt) d' (.ref nm :: as) h Qc mc' ms') (cw : zcV y.cls idx C z bytes maxL rt na) (hobj : h nm = some (.inr (ci, fs))) (hci : (zcl[ci]?).map (fun q => q.1) = some C) (hna : as.length = na) (hstk : as.reverse ++ .ref nm :: st = stk) (hd : d' < d) (hk : k + mc' ≤ kc) (hn : n + ms' ≤ ks) (hcat : (st.map fun v => v.category).sum ≤ 8)
    (dd : decode cc pc = .ok (.invokevirtual idx, 3)) (kx : ∀ q h', Qc (.inr q) h' → zT X Q h' (k + mc') (n + ms') pc env q) (kk : ∀ v h', Qc (.inl v) h' → zW X Q h' (k + mc') (n + ms') (pc + 3) env (v.toList ++ st)) : zW X Q h k n pc env stk := by
  subst hstk
  obtain ⟨p, l, e, R, s, m, args, below, meth, c, D, dA, r0, A, mc, ms⟩ := X
  obtain ⟨hx, hb, hml, hrt, hlk, hnm, hown, hts, hN, hNc, hK, hA0, hfl, hR, hmc, hms, hG, hTb⟩ := K
  intro r H locs ls st' g0 g1 g2 g3 g4 g5
  obtain ⟨sa, sb, rfl, ha, hb5⟩ := zvs.split g5
  obtain ⟨b, rest, gr, rfl, g6⟩ := zvs_r hb5
  obtain ⟨⟨hcode, hini, hpl, hlen, hmx, hlink⟩, hinst, hsel⟩ := cw
  obtain ⟨q, hq⟩ : ∃ q, zcl[ci]? = some q := by
    cases hz : zcl[ci]? with
    | none => rw [hz] at hci; cases hci
    | some q => exact ⟨q, rfl⟩
  have hC : q.1 = C := by rw [hq] at hci; exact Option.some.inj hci
  obtain ⟨fs', cell, -, q1, q2, q3, -, -⟩ := g1.obj hobj gr hq
  have hcls : s.vm.findClass C = some cell.cls := by rw [q2, ← hC]; exact (hK.1 ci q hq).2.1
  have has : zvs r (.ref nm :: as) (.ref b :: sa.reverse) := zvs.r gr (by have := ha.rev; rwa [List.reverse_reverse] at this)
  refine zx_after (len := 3) (a := (Value.ref b :: sa.reverse).toArray) g0 g3 g4 g6 (fun T hT X => ?_) kk kx
  have hbk := zx_back (p := p) (e := e) (below := below) (s := s) (sargs := args) (len := 3) (R := R) (D := D) (dA := dA) (A := A) (l := l) hM hfl has (by rw [hR]; exact hd) (by rw [hR]; show 8 + (maxL + 11) + 64 * d' ≤ 64 * d; omega) (zws hts hcode) (Or.inl List.mem_cons_self) (fun a' U hW => word_at hW (Or.inl (by first | rfl | simp [Cond.onTables, Cond.keeps, Cond.steady])) (hts _ hini))
  exact vx_callV X hx hown (hts _ hlink) (hts _ hinst) (hts _ hsel) (hts _ hcode) hpl hbk (by rw [hT]; exact q1) q3 hcls (g := F0 m pc ls (sa ++ .ref b :: rest)) rfl (by show ls.size = c.maxLocals; exact g4.1) (argsL := sa.reverse) (rest := rest) (fun sig hs => by rw [List.length_reverse, ha.len, List.length_reverse, hna]; exact zlen hlen hs) (by rw [List.reverse_reverse]) (lv_room (by rw [g6.cats]; exact hcat)) (by rw [hb]; exact dd)
    (fun vm₁ hW => ⟨by rw [hR]; exact hk, by rw [hR]; exact hn, zPc.call hT hW g0 g1 g2 g3 hK hA0 hN hNc hG⟩)
theorem z_callS (K : zK y cc nL ret hh d kc ks X) {idx : Nat} {z : MethodName} {bytes : ByteArray} {maxL : Nat} {rt : Option FieldType} {na d' mc' ms' : Nat} {as : List Value} {Qc : zO → zH → Prop} {stk : List Value}
    (hM : zMet z (ws_ z bytes maxL rt) d' as h Qc mc' ms') (cw : zcS y.cls idx z bytes maxL rt na) (hna : as.length = na) (hstk : as.reverse ++ st = stk) (hd : d' < d) (hk : k + mc' ≤ kc) (hn : n + ms' ≤ ks) (hcat : (st.map fun v => v.category).sum ≤ 8)
    (dd : decode cc pc = .ok (.invokestatic idx, 3)) (kx : ∀ q h', Qc (.inr q) h' → zT X Q h' (k + mc') (n + ms') pc env q) (kk : ∀ v h', Qc (.inl v) h' → zW X Q h' (k + mc') (n + ms') (pc + 3) env (v.toList ++ st)) : zW X Q h k n pc env stk := by
  subst hstk
  obtain ⟨p, l, e, R, s, m, args, below, meth, c, D, dA, r0, A, mc, ms⟩ := X
  obtain ⟨hx, hb, hml, hrt, hlk, hnm, hown, hts, hN, hNc, hK, hA0, hfl, hR, hmc, hms, hG, hTb⟩ := K
  intro r H locs ls st' g0 g1 g2 g3 g4 g5
  obtain ⟨sa, rest, rfl, ha, g6⟩ := zvs.split g5
  obtain ⟨⟨hcode, hini, hpl, hlen, hmx, hlink⟩, hstat⟩ := cw
  have has : zvs r as sa.reverse := by have := ha.rev; rwa [List.reverse_reverse] at this
  refine zx_after (len := 3) (a := (sa.reverse).toArray) g0 g3 g4 g6 (fun T hT X => ?_) kk kx
  have hbk := zx_back (p := p) (e := e) (below := below) (s := s) (sargs := args) (len := 3) (R := R) (D := D) (dA := dA) (A := A) (l := l) hM hfl has (by rw [hR]; exact hd) (by rw [hR]; show 8 + (maxL + 11) + 64 * d' ≤ 64 * d; omega) (zws hts hcode) (Or.inl List.mem_cons_self) (fun a' U hW => word_at hW (Or.inl (by first | rfl | simp [Cond.onTables, Cond.keeps, Cond.steady])) (hts _ hini))
  exact vx_callS X hx hown (hts _ hlink) (hts _ hstat) (hts _ hini) (hts _ hcode) hpl hbk (g := F0 m pc ls (sa ++ rest)) rfl (by show ls.size = c.maxLocals; exact g4.1) (argsL := sa.reverse) (rest := rest) (fun sig hs => by rw [List.length_reverse, ha.len, List.length_reverse, hna]; exact zlen hlen hs) (by rw [List.reverse_reverse]) (lv_room (by rw [g6.cats]; exact hcat)) (by rw [hb]; exact dd)
    (fun vm₁ hW => ⟨by rw [hR]; exact hk, by rw [hR]; exact hn, zPc.call hT hW g0 g1 g2 g3 hK hA0 hN hNc hG⟩)
/-! ends without a throw -/
def zPi (P : Int32 → zH → Prop) : zO → zH → Prop := fun o h' => ∃ x, o = .inl (some (.int x)) ∧ P x h'
def zPv (P : zH → Prop) : zO → zH → Prop := fun o h' => o = .inl none ∧ P h'
def zPd (P : UInt64 → zH → Prop) : zO → zH → Prop := fun o h' => ∃ x, o = .inl (some (.double x)) ∧ P x h'
def zPr (P : Value → zH → Prop) : zO → zH → Prop := fun o h' => ∃ v, o = .inl (some v) ∧ zisr v = true ∧ P v h'
theorem z_kxi {P : Int32 → zH → Prop} : ∀ q h', zPi P (.inr q) h' → zT X Q h' k n pc env q := fun _ _ ⟨_, e, _⟩ => nomatch e
theorem z_kxv {P : zH → Prop} : ∀ q h', zPv P (.inr q) h' → zT X Q h' k n pc env q := fun _ _ ⟨e, _⟩ => nomatch e
theorem z_kxr {P : Value → zH → Prop} : ∀ q h', zPr P (.inr q) h' → zT X Q h' k n pc env q := fun _ _ ⟨_, e, _⟩ => nomatch e
theorem z_kxd {P : UInt64 → zH → Prop} : ∀ q h', zPd P (.inr q) h' → zT X Q h' k n pc env q := fun _ _ ⟨_, e, _⟩ => nomatch e
theorem z_kki {P : Int32 → zH → Prop} (kk : ∀ x h', P x h' → zW X Q h' k n pc env (.int x :: st)) : ∀ v h', zPi P (.inl v) h' → zW X Q h' k n pc env (v.toList ++ st) := fun v h' ⟨x, e, hp⟩ => by cases e; exact kk x h' hp
theorem z_kkv {P : zH → Prop} (kk : ∀ h', P h' → zW X Q h' k n pc env st) : ∀ v h', zPv P (.inl v) h' → zW X Q h' k n pc env (v.toList ++ st) := fun v h' ⟨e, hp⟩ => by cases e; exact kk h' hp
theorem z_kkr {P : Value → zH → Prop} (kk : ∀ v h', zisr v = true → P v h' → zW X Q h' k n pc env (v :: st)) : ∀ v h', zPr P (.inl v) h' → zW X Q h' k n pc env (v.toList ++ st) := fun v h' ⟨x, e, hr, hp⟩ => by cases e; exact kk x h' hr hp
theorem z_kkd {P : UInt64 → zH → Prop} (kk : ∀ x h', P x h' → zW X Q h' k n pc env (.double x :: st)) : ∀ v h', zPd P (.inl v) h' → zW X Q h' k n pc env (v.toList ++ st) := fun v h' ⟨x, e, hp⟩ => by cases e; exact kk x h' hp
end Zcall
