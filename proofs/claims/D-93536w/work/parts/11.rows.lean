/-! ===== the rows of the machine of names: constants, locals, arithmetic, branches (printed by tools/genrows.py) ===== -/
def zisr : Value → Bool
  | .ref _ => true
  | .null => true
  | _ => false
/-- the listed locals as they are -/
def zreal (env : List (Nat × Value)) (ls : Array Slot) : List (Nat × Value) := env.filterMap fun q => match (ls[q.1]? : Option Slot) with
  | some (.val w) => some (q.1, w)
  | _ => none
theorem zreal_mem {env : List (Nat × Value)} {ls : Array Slot} {q : Nat × Value} (h : q ∈ zreal env ls) : ls[q.1]? = some (.val q.2) := by
  obtain ⟨a, -, ha⟩ := List.mem_filterMap.mp h
  split at ha
  · next w hw =>
    cases ha
    exact hw
  · cases ha
theorem zl_mem : ∀ {env : List (Nat × Value)} {i : Nat} {v : Value}, zl env i = some v → (i, v) ∈ env
  | [], _, _, h => by cases h
  | (j, u) :: l, i, v, h => by
    cases hb : Nat.beq j i with
    | true =>
      have hj : j = i := Nat.eq_of_beq_eq_true hb
      have h : some u = some v := by simpa [zl, hb] using h
      cases h
      rw [hj]
      exact List.mem_cons_self
    | false =>
      have h : zl l i = some v := by simpa [zl, hb] using h
      exact List.mem_cons_of_mem _ (zl_mem h)
theorem zreal_of {env : List (Nat × Value)} {ls : Array Slot} {i : Nat} {v w : Value} (h : zl env i = some v) (e : ls[i]? = some (.val w)) : (i, w) ∈ zreal env ls :=
  List.mem_filterMap.mpr ⟨(i, v), zl_mem h, by simp [e]⟩
theorem zE.has {r : zR} {nL : Nat} {env : List (Nat × Value)} {ls : Array Slot} (h : zE r nL env ls) : lv_has ls nL (zreal env ls) := ⟨h.1, h.2.1, fun _ hq => zreal_mem hq⟩
theorem zE.store {r : zR} {nL : Nat} {env : List (Nat × Value)} {ls ls' : Array Slot} (h : zE r nL env ls) {i : Nat} {v w : Value} (hv : zv r v w) (hc : v.category = 1) (hz : zlo env i = true)
    (hl : lv_has ls' nL ((i, w) :: (zreal env ls).filter (fun q => !(q.1 == i) && !(q.1 + 1 == i && q.2.category == 2)))) : zE r nL ((i, v) :: env) ls' := by
  refine ⟨hl.1, hl.2.1, fun j u hj => ?_⟩
  cases hb : Nat.beq i j with
  | true =>
    have hij : i = j := Nat.eq_of_beq_eq_true hb
    have hj : some v = some u := by simpa [zl, hb] using hj
    cases hj
    subst hij
    exact ⟨w, hv, hl.2.2 (i, w) List.mem_cons_self⟩
  | false =>
    have hj9 : zl env j = some u := by simpa [zl, hb] using hj
    clear hj
    obtain ⟨x, h1, h2⟩ := h.2.2 j u hj9
    have hne : j ≠ i := fun q => by rw [q] at hb; simp at hb
    refine ⟨x, h1, hl.2.2 (j, x) (List.mem_cons_of_mem _ (List.mem_filter.mpr ⟨zreal_of hj9 h2, ?_⟩))⟩
    have hcat : ¬ (j + 1 = i ∧ x.category = 2) := by
      rintro ⟨q1, q2⟩
      subst q1
      rw [h1.cat] at q2
      simp only [zlo] at hz
      rw [hj9] at hz
      have := Nat.eq_of_beq_eq_true (show Nat.beq u.category 1 = true from hz)
      omega
    simp only [Bool.and_eq_true, Bool.not_eq_true', beq_eq_false_iff_ne, ne_eq, Bool.and_eq_false_iff]
    refine ⟨hne, ?_⟩
    by_cases q1 : j + 1 = i
    · exact Or.inr fun q2 => hcat ⟨q1, q2⟩
    · exact Or.inl q1
section ZP
variable {y : MethodName} {cc : ByteArray} {nL : Nat} {ret : Option FieldType} {hh : List (Nat × Nat × Nat × Nat)} {d kc ks : Nat} {X : zX} {Q : zO → zH → Prop} {h : zH} {k n pc : Nat} {env : List (Nat × Value)} {st : List Value}
theorem z_iconst (K : zK y cc nL ret hh d kc ks X) {j : Int} {v : Int32} (dd : decode cc pc = .ok (.iconst j, 1)) (hv : Int32.ofInt j = v)
    (kk : zW X Q h k n (pc + 1) env (.int v :: st)) : zW X Q h k n pc env (st) := by
  obtain ⟨p, l, e, R, s, m, args, below, meth, c, D, dA, r0, A, mc, ms⟩ := X
  obtain ⟨hx, hb, hml, -, -, -, hown, hts, -⟩ := K
  intro r H locs ls st' g0 g1 g2 g3 g4 g5

  exact lv_iconst hx hb dd hv (kk r H locs ls _ g0 g1 g2 g3 g4 (zvs.i g5))
theorem z_bipush (K : zK y cc nL ret hh d kc ks X) {j : Int} {v : Int32} (dd : decode cc pc = .ok (.bipush j, 2)) (hv : (Int8.ofInt j).toInt32 = v)
    (kk : zW X Q h k n (pc + 2) env (.int v :: st)) : zW X Q h k n pc env (st) := by
  obtain ⟨p, l, e, R, s, m, args, below, meth, c, D, dA, r0, A, mc, ms⟩ := X
  obtain ⟨hx, hb, hml, -, -, -, hown, hts, -⟩ := K
  intro r H locs ls st' g0 g1 g2 g3 g4 g5

  exact lv_bipush hx hb dd hv (kk r H locs ls _ g0 g1 g2 g3 g4 (zvs.i g5))
theorem z_sipush (K : zK y cc nL ret hh d kc ks X) {j : Int} {v : Int32} (dd : decode cc pc = .ok (.sipush j, 3)) (hv : (Int16.ofInt j).toInt32 = v)
    (kk : zW X Q h k n (pc + 3) env (.int v :: st)) : zW X Q h k n pc env (st) := by
  obtain ⟨p, l, e, R, s, m, args, below, meth, c, D, dA, r0, A, mc, ms⟩ := X
  obtain ⟨hx, hb, hml, -, -, -, hown, hts, -⟩ := K
  intro r H locs ls st' g0 g1 g2 g3 g4 g5

  exact lv_sipush hx hb dd hv (kk r H locs ls _ g0 g1 g2 g3 g4 (zvs.i g5))
theorem z_lconst (K : zK y cc nL ret hh d kc ks X) {j : Fin 2} {v : Int64} (dd : decode cc pc = .ok (.lconst j, 1)) (hv : Int64.ofNat (j : Nat) = v)
    (kk : zW X Q h k n (pc + 1) env (.long v :: st)) : zW X Q h k n pc env (st) := by
  obtain ⟨p, l, e, R, s, m, args, below, meth, c, D, dA, r0, A, mc, ms⟩ := X
  obtain ⟨hx, hb, hml, -, -, -, hown, hts, -⟩ := K
  intro r H locs ls st' g0 g1 g2 g3 g4 g5

  exact lv_lconst hx hb dd hv (kk r H locs ls _ g0 g1 g2 g3 g4 (zvs.l g5))
theorem z_dconst0 (K : zK y cc nL ret hh d kc ks X)  (dd : decode cc pc = .ok (.dconst 0, 1))
    (kk : zW X Q h k n (pc + 1) env (.double FP.dconst0 :: st)) : zW X Q h k n pc env (st) := by
  obtain ⟨p, l, e, R, s, m, args, below, meth, c, D, dA, r0, A, mc, ms⟩ := X
  obtain ⟨hx, hb, hml, -, -, -, hown, hts, -⟩ := K
  intro r H locs ls st' g0 g1 g2 g3 g4 g5

  exact lv_dconst0 hx hb dd (kk r H locs ls _ g0 g1 g2 g3 g4 (zvs.d g5))
theorem z_null (K : zK y cc nL ret hh d kc ks X)  (dd : decode cc pc = .ok (.aconst_null, 1))
    (kk : zW X Q h k n (pc + 1) env (.null :: st)) : zW X Q h k n pc env (st) := by
  obtain ⟨p, l, e, R, s, m, args, below, meth, c, D, dA, r0, A, mc, ms⟩ := X
  obtain ⟨hx, hb, hml, -, -, -, hown, hts, -⟩ := K
  intro r H locs ls st' g0 g1 g2 g3 g4 g5

  exact lv_null hx hb dd (kk r H locs ls _ g0 g1 g2 g3 g4 (zvs.n g5))
theorem z_iadd (K : zK y cc nL ret hh d kc ks X) {x z : Int32} (dd : decode cc pc = .ok (.iadd, 1))
    (kk : zW X Q h k n (pc + 1) env (.int (x + z) :: st)) : zW X Q h k n pc env (.int z :: .int x :: st) := by
  obtain ⟨p, l, e, R, s, m, args, below, meth, c, D, dA, r0, A, mc, ms⟩ := X
  obtain ⟨hx, hb, hml, -, -, -, hown, hts, -⟩ := K
  intro r H locs ls st' g0 g1 g2 g3 g4 g5
  obtain ⟨_, rfl, g6⟩ := zvs_i g5
  obtain ⟨_, rfl, g7⟩ := zvs_i g6
  exact lv_iadd hx hb dd (kk r H locs ls _ g0 g1 g2 g3 g4 (zvs.i g7))
theorem z_isub (K : zK y cc nL ret hh d kc ks X) {x z : Int32} (dd : decode cc pc = .ok (.isub, 1))
    (kk : zW X Q h k n (pc + 1) env (.int (x - z) :: st)) : zW X Q h k n pc env (.int z :: .int x :: st) := by
  obtain ⟨p, l, e, R, s, m, args, below, meth, c, D, dA, r0, A, mc, ms⟩ := X
  obtain ⟨hx, hb, hml, -, -, -, hown, hts, -⟩ := K
  intro r H locs ls st' g0 g1 g2 g3 g4 g5
  obtain ⟨_, rfl, g6⟩ := zvs_i g5
  obtain ⟨_, rfl, g7⟩ := zvs_i g6
  exact lv_isub hx hb dd (kk r H locs ls _ g0 g1 g2 g3 g4 (zvs.i g7))
theorem z_imul (K : zK y cc nL ret hh d kc ks X) {x z : Int32} (dd : decode cc pc = .ok (.imul, 1))
    (kk : zW X Q h k n (pc + 1) env (.int (x * z) :: st)) : zW X Q h k n pc env (.int z :: .int x :: st) := by
  obtain ⟨p, l, e, R, s, m, args, below, meth, c, D, dA, r0, A, mc, ms⟩ := X
  obtain ⟨hx, hb, hml, -, -, -, hown, hts, -⟩ := K
  intro r H locs ls st' g0 g1 g2 g3 g4 g5
  obtain ⟨_, rfl, g6⟩ := zvs_i g5
  obtain ⟨_, rfl, g7⟩ := zvs_i g6
  exact lv_imul hx hb dd (kk r H locs ls _ g0 g1 g2 g3 g4 (zvs.i g7))
theorem z_iand (K : zK y cc nL ret hh d kc ks X) {x z : Int32} (dd : decode cc pc = .ok (.iand, 1))
    (kk : zW X Q h k n (pc + 1) env (.int (x &&& z) :: st)) : zW X Q h k n pc env (.int z :: .int x :: st) := by
  obtain ⟨p, l, e, R, s, m, args, below, meth, c, D, dA, r0, A, mc, ms⟩ := X
  obtain ⟨hx, hb, hml, -, -, -, hown, hts, -⟩ := K
  intro r H locs ls st' g0 g1 g2 g3 g4 g5
  obtain ⟨_, rfl, g6⟩ := zvs_i g5
  obtain ⟨_, rfl, g7⟩ := zvs_i g6
  exact lv_iand hx hb dd (kk r H locs ls _ g0 g1 g2 g3 g4 (zvs.i g7))
theorem z_ior (K : zK y cc nL ret hh d kc ks X) {x z : Int32} (dd : decode cc pc = .ok (.ior, 1))
    (kk : zW X Q h k n (pc + 1) env (.int (x ||| z) :: st)) : zW X Q h k n pc env (.int z :: .int x :: st) := by
  obtain ⟨p, l, e, R, s, m, args, below, meth, c, D, dA, r0, A, mc, ms⟩ := X
  obtain ⟨hx, hb, hml, -, -, -, hown, hts, -⟩ := K
  intro r H locs ls st' g0 g1 g2 g3 g4 g5
  obtain ⟨_, rfl, g6⟩ := zvs_i g5
  obtain ⟨_, rfl, g7⟩ := zvs_i g6
  exact lv_ior hx hb dd (kk r H locs ls _ g0 g1 g2 g3 g4 (zvs.i g7))
theorem z_ixor (K : zK y cc nL ret hh d kc ks X) {x z : Int32} (dd : decode cc pc = .ok (.ixor, 1))
    (kk : zW X Q h k n (pc + 1) env (.int (x ^^^ z) :: st)) : zW X Q h k n pc env (.int z :: .int x :: st) := by
  obtain ⟨p, l, e, R, s, m, args, below, meth, c, D, dA, r0, A, mc, ms⟩ := X
  obtain ⟨hx, hb, hml, -, -, -, hown, hts, -⟩ := K
  intro r H locs ls st' g0 g1 g2 g3 g4 g5
  obtain ⟨_, rfl, g6⟩ := zvs_i g5
  obtain ⟨_, rfl, g7⟩ := zvs_i g6
  exact lv_ixor hx hb dd (kk r H locs ls _ g0 g1 g2 g3 g4 (zvs.i g7))
theorem z_idiv (K : zK y cc nL ret hh d kc ks X) {x z : Int32} (dd : decode cc pc = .ok (.idiv, 1)) (hne : ¬ z = 0)
    (kk : zW X Q h k n (pc + 1) env (.int (x / z) :: st)) : zW X Q h k n pc env (.int z :: .int x :: st) := by
  obtain ⟨p, l, e, R, s, m, args, below, meth, c, D, dA, r0, A, mc, ms⟩ := X
  obtain ⟨hx, hb, hml, -, -, -, hown, hts, -⟩ := K
  intro r H locs ls st' g0 g1 g2 g3 g4 g5
  obtain ⟨_, rfl, g6⟩ := zvs_i g5
  obtain ⟨_, rfl, g7⟩ := zvs_i g6
  exact lv_idiv hx hb dd hne (kk r H locs ls _ g0 g1 g2 g3 g4 (zvs.i g7))
theorem z_irem (K : zK y cc nL ret hh d kc ks X) {x z : Int32} (dd : decode cc pc = .ok (.irem, 1)) (hne : ¬ z = 0)
    (kk : zW X Q h k n (pc + 1) env (.int (x - x / z * z) :: st)) : zW X Q h k n pc env (.int z :: .int x :: st) := by
  obtain ⟨p, l, e, R, s, m, args, below, meth, c, D, dA, r0, A, mc, ms⟩ := X
  obtain ⟨hx, hb, hml, -, -, -, hown, hts, -⟩ := K
  intro r H locs ls st' g0 g1 g2 g3 g4 g5
  obtain ⟨_, rfl, g6⟩ := zvs_i g5
  obtain ⟨_, rfl, g7⟩ := zvs_i g6
  exact lv_irem hx hb dd hne (kk r H locs ls _ g0 g1 g2 g3 g4 (zvs.i g7))
theorem z_ineg (K : zK y cc nL ret hh d kc ks X) {x : Int32} (dd : decode cc pc = .ok (.ineg, 1))
    (kk : zW X Q h k n (pc + 1) env (.int (-x) :: st)) : zW X Q h k n pc env (.int x :: st) := by
  obtain ⟨p, l, e, R, s, m, args, below, meth, c, D, dA, r0, A, mc, ms⟩ := X
  obtain ⟨hx, hb, hml, -, -, -, hown, hts, -⟩ := K
  intro r H locs ls st' g0 g1 g2 g3 g4 g5
  obtain ⟨_, rfl, g6⟩ := zvs_i g5
  exact lv_ineg hx hb dd (kk r H locs ls _ g0 g1 g2 g3 g4 (zvs.i g6))
theorem z_ishl (K : zK y cc nL ret hh d kc ks X) {x z : Int32} (dd : decode cc pc = .ok (.ishl, 1))
    (kk : zW X Q h k n (pc + 1) env (.int (x <<< (z &&& 31)) :: st)) : zW X Q h k n pc env (.int z :: .int x :: st) := by
  obtain ⟨p, l, e, R, s, m, args, below, meth, c, D, dA, r0, A, mc, ms⟩ := X
  obtain ⟨hx, hb, hml, -, -, -, hown, hts, -⟩ := K
  intro r H locs ls st' g0 g1 g2 g3 g4 g5
  obtain ⟨_, rfl, g6⟩ := zvs_i g5
  obtain ⟨_, rfl, g7⟩ := zvs_i g6
  exact lv_ishl hx hb dd (kk r H locs ls _ g0 g1 g2 g3 g4 (zvs.i g7))
theorem z_ishr (K : zK y cc nL ret hh d kc ks X) {x z : Int32} (dd : decode cc pc = .ok (.ishr, 1))
    (kk : zW X Q h k n (pc + 1) env (.int (x >>> (z &&& 31)) :: st)) : zW X Q h k n pc env (.int z :: .int x :: st) := by
  obtain ⟨p, l, e, R, s, m, args, below, meth, c, D, dA, r0, A, mc, ms⟩ := X
  obtain ⟨hx, hb, hml, -, -, -, hown, hts, -⟩ := K
  intro r H locs ls st' g0 g1 g2 g3 g4 g5
  obtain ⟨_, rfl, g6⟩ := zvs_i g5
  obtain ⟨_, rfl, g7⟩ := zvs_i g6
  exact lv_ishr hx hb dd (kk r H locs ls _ g0 g1 g2 g3 g4 (zvs.i g7))
theorem z_iushr (K : zK y cc nL ret hh d kc ks X) {x z : Int32} (dd : decode cc pc = .ok (.iushr, 1))
    (kk : zW X Q h k n (pc + 1) env (.int ((x.toUInt32 >>> (z.toUInt32 &&& Int32.toUInt32 31)).toInt32) :: st)) : zW X Q h k n pc env (.int z :: .int x :: st) := by
  obtain ⟨p, l, e, R, s, m, args, below, meth, c, D, dA, r0, A, mc, ms⟩ := X
  obtain ⟨hx, hb, hml, -, -, -, hown, hts, -⟩ := K
  intro r H locs ls st' g0 g1 g2 g3 g4 g5
  obtain ⟨_, rfl, g6⟩ := zvs_i g5
  obtain ⟨_, rfl, g7⟩ := zvs_i g6
  exact lv_iushr hx hb dd rfl (kk r H locs ls _ g0 g1 g2 g3 g4 (zvs.i g7))
theorem z_i2l (K : zK y cc nL ret hh d kc ks X) {x : Int32} (dd : decode cc pc = .ok (.i2l, 1))
    (kk : zW X Q h k n (pc + 1) env (.long x.toInt64 :: st)) : zW X Q h k n pc env (.int x :: st) := by
  obtain ⟨p, l, e, R, s, m, args, below, meth, c, D, dA, r0, A, mc, ms⟩ := X
  obtain ⟨hx, hb, hml, -, -, -, hown, hts, -⟩ := K
  intro r H locs ls st' g0 g1 g2 g3 g4 g5
  obtain ⟨_, rfl, g6⟩ := zvs_i g5
  exact lv_i2l hx hb dd rfl (kk r H locs ls _ g0 g1 g2 g3 g4 (zvs.l g6))
theorem z_i2b (K : zK y cc nL ret hh d kc ks X) {x : Int32} (dd : decode cc pc = .ok (.i2b, 1))
    (kk : zW X Q h k n (pc + 1) env (.int (x.toInt8.toInt32) :: st)) : zW X Q h k n pc env (.int x :: st) := by
  obtain ⟨p, l, e, R, s, m, args, below, meth, c, D, dA, r0, A, mc, ms⟩ := X
  obtain ⟨hx, hb, hml, -, -, -, hown, hts, -⟩ := K
  intro r H locs ls st' g0 g1 g2 g3 g4 g5
  obtain ⟨_, rfl, g6⟩ := zvs_i g5
  exact lv_i2b hx hb dd rfl (kk r H locs ls _ g0 g1 g2 g3 g4 (zvs.i g6))
theorem z_i2c (K : zK y cc nL ret hh d kc ks X) {x : Int32} (dd : decode cc pc = .ok (.i2c, 1))
    (kk : zW X Q h k n (pc + 1) env (.int ((x.toUInt32 % 65536).toInt32) :: st)) : zW X Q h k n pc env (.int x :: st) := by
  obtain ⟨p, l, e, R, s, m, args, below, meth, c, D, dA, r0, A, mc, ms⟩ := X
  obtain ⟨hx, hb, hml, -, -, -, hown, hts, -⟩ := K
  intro r H locs ls st' g0 g1 g2 g3 g4 g5
  obtain ⟨_, rfl, g6⟩ := zvs_i g5
  exact lv_i2c hx hb dd rfl (kk r H locs ls _ g0 g1 g2 g3 g4 (zvs.i g6))
theorem z_i2d (K : zK y cc nL ret hh d kc ks X) {x : Int32} (dd : decode cc pc = .ok (.i2d, 1))
    (kk : zW X Q h k n (pc + 1) env (.double (FP.i2d x) :: st)) : zW X Q h k n pc env (.int x :: st) := by
  obtain ⟨p, l, e, R, s, m, args, below, meth, c, D, dA, r0, A, mc, ms⟩ := X
  obtain ⟨hx, hb, hml, -, -, -, hown, hts, -⟩ := K
  intro r H locs ls st' g0 g1 g2 g3 g4 g5
  obtain ⟨_, rfl, g6⟩ := zvs_i g5
  exact lv_i2d hx hb dd (kk r H locs ls _ g0 g1 g2 g3 g4 (zvs.d g6))
theorem z_lcmp (K : zK y cc nL ret hh d kc ks X) {x z : Int64} (dd : decode cc pc = .ok (.lcmp, 1))
    (kk : zW X Q h k n (pc + 1) env (.int (lg_cmp x z) :: st)) : zW X Q h k n pc env (.long z :: .long x :: st) := by
  obtain ⟨p, l, e, R, s, m, args, below, meth, c, D, dA, r0, A, mc, ms⟩ := X
  obtain ⟨hx, hb, hml, -, -, -, hown, hts, -⟩ := K
  intro r H locs ls st' g0 g1 g2 g3 g4 g5
  obtain ⟨_, rfl, g6⟩ := zvs_l g5
  obtain ⟨_, rfl, g7⟩ := zvs_l g6
  exact W.lcmp hx hb dd (kk r H locs ls _ g0 g1 g2 g3 g4 (zvs.i g7))
theorem z_dcmp (K : zK y cc nL ret hh d kc ks X) {x z : UInt64} {op : CmpOp} (dd : decode cc pc = .ok (.dcmp op, 1))
    (kk : zW X Q h k n (pc + 1) env (.int (Op.cmpValue (FP.dcmp x z) op) :: st)) : zW X Q h k n pc env (.double z :: .double x :: st) := by
  obtain ⟨p, l, e, R, s, m, args, below, meth, c, D, dA, r0, A, mc, ms⟩ := X
  obtain ⟨hx, hb, hml, -, -, -, hown, hts, -⟩ := K
  intro r H locs ls st' g0 g1 g2 g3 g4 g5
  obtain ⟨_, rfl, g6⟩ := zvs_d g5
  obtain ⟨_, rfl, g7⟩ := zvs_d g6
  exact lv_dcmp hx hb dd (kk r H locs ls _ g0 g1 g2 g3 g4 (zvs.i g7))
theorem z_ddiv (K : zK y cc nL ret hh d kc ks X) {x z : UInt64} (dd : decode cc pc = .ok (.ddiv, 1)) (hne : vf_n64 (FP.ddiv x z))
    (kk : zW X Q h k n (pc + 1) env (.double (FP.ddiv x z) :: st)) : zW X Q h k n pc env (.double z :: .double x :: st) := by
  obtain ⟨p, l, e, R, s, m, args, below, meth, c, D, dA, r0, A, mc, ms⟩ := X
  obtain ⟨hx, hb, hml, -, -, -, hown, hts, -⟩ := K
  intro r H locs ls st' g0 g1 g2 g3 g4 g5
  obtain ⟨_, rfl, g6⟩ := zvs_d g5
  obtain ⟨_, rfl, g7⟩ := zvs_d g6
  exact lv_ddiv hx hb dd hne (kk r H locs ls _ g0 g1 g2 g3 g4 (zvs.d g7))
theorem z_dup (K : zK y cc nL ret hh d kc ks X) {v : Value} (dd : decode cc pc = .ok (.dup, 1)) (hv : v.category = 1)
    (kk : zW X Q h k n (pc + 1) env (v :: v :: st)) : zW X Q h k n pc env (v :: st) := by
  obtain ⟨p, l, e, R, s, m, args, below, meth, c, D, dA, r0, A, mc, ms⟩ := X
  obtain ⟨hx, hb, hml, -, -, -, hown, hts, -⟩ := K
  intro r H locs ls st' g0 g1 g2 g3 g4 g5
  obtain ⟨w1, _, rfl, e1, g6⟩ := zvs_c g5
  exact lv_dup hx hb dd (by rw [e1.cat]; exact hv) (kk r H locs ls _ g0 g1 g2 g3 g4 (zvs.c e1 (zvs.c e1 g6)))
theorem z_pop (K : zK y cc nL ret hh d kc ks X) {v : Value} (dd : decode cc pc = .ok (.pop, 1)) (hv : v.category = 1)
    (kk : zW X Q h k n (pc + 1) env (st)) : zW X Q h k n pc env (v :: st) := by
  obtain ⟨p, l, e, R, s, m, args, below, meth, c, D, dA, r0, A, mc, ms⟩ := X
  obtain ⟨hx, hb, hml, -, -, -, hown, hts, -⟩ := K
  intro r H locs ls st' g0 g1 g2 g3 g4 g5
  obtain ⟨w1, _, rfl, e1, g6⟩ := zvs_c g5
  exact lv_pop hx hb dd (by rw [e1.cat]; exact hv) (kk r H locs ls _ g0 g1 g2 g3 g4 g6)
theorem z_dup_x1 (K : zK y cc nL ret hh d kc ks X) {v u : Value} (dd : decode cc pc = .ok (.dup_x1, 1)) (hv : v.category = 1) (hu : u.category = 1)
    (kk : zW X Q h k n (pc + 1) env (v :: u :: v :: st)) : zW X Q h k n pc env (v :: u :: st) := by
  obtain ⟨p, l, e, R, s, m, args, below, meth, c, D, dA, r0, A, mc, ms⟩ := X
  obtain ⟨hx, hb, hml, -, -, -, hown, hts, -⟩ := K
  intro r H locs ls st' g0 g1 g2 g3 g4 g5
  obtain ⟨w1, _, rfl, e1, g6⟩ := zvs_c g5
  obtain ⟨w2, _, rfl, e2, g7⟩ := zvs_c g6
  exact lv_dup_x1 hx hb dd (by rw [e1.cat]; exact hv) (by rw [e2.cat]; exact hu) (kk r H locs ls _ g0 g1 g2 g3 g4 (zvs.c e1 (zvs.c e2 (zvs.c e1 g7))))
theorem z_dup2 (K : zK y cc nL ret hh d kc ks X) {v u : Value} (dd : decode cc pc = .ok (.dup2, 1)) (hv : v.category = 1) (hu : u.category = 1)
    (kk : zW X Q h k n (pc + 1) env (v :: u :: v :: u :: st)) : zW X Q h k n pc env (v :: u :: st) := by
  obtain ⟨p, l, e, R, s, m, args, below, meth, c, D, dA, r0, A, mc, ms⟩ := X
  obtain ⟨hx, hb, hml, -, -, -, hown, hts, -⟩ := K
  intro r H locs ls st' g0 g1 g2 g3 g4 g5
  obtain ⟨w1, _, rfl, e1, g6⟩ := zvs_c g5
  obtain ⟨w2, _, rfl, e2, g7⟩ := zvs_c g6
  exact lv_dup2_11 hx hb dd (by rw [e1.cat]; exact hv) (by rw [e2.cat]; exact hu) (kk r H locs ls _ g0 g1 g2 g3 g4 (zvs.c e1 (zvs.c e2 (zvs.c e1 (zvs.c e2 g7)))))
theorem z_iload (K : zK y cc nL ret hh d kc ks X) {i : Nat} {x : Int32} (dd : decode cc pc = .ok (.iload i, 2)) (hv : zl env i = some (.int x))
    (kk : zW X Q h k n (pc + 2) env (.int x :: st)) : zW X Q h k n pc env (st) := by
  obtain ⟨p, l, e, R, s, m, args, below, meth, c, D, dA, r0, A, mc, ms⟩ := X
  obtain ⟨hx, hb, hml, -, -, -, hown, hts, -⟩ := K
  intro r H locs ls st' g0 g1 g2 g3 g4 g5
  obtain ⟨w, q1, q2⟩ := g4.2.2 _ _ hv
  have q1 : w = .int x := q1
  subst q1
  exact lv_iload hx hb dd q2 (kk r H locs ls _ g0 g1 g2 g3 g4 (zvs.i g5))
theorem z_iload_n (K : zK y cc nL ret hh d kc ks X) {j : Fin 4} {i : Nat} {x : Int32} (dd : decode cc pc = .ok (.iload_n j, 1)) (hi : (j : Nat) = i) (hv : zl env i = some (.int x))
    (kk : zW X Q h k n (pc + 1) env (.int x :: st)) : zW X Q h k n pc env (st) := by
  obtain ⟨p, l, e, R, s, m, args, below, meth, c, D, dA, r0, A, mc, ms⟩ := X
  obtain ⟨hx, hb, hml, -, -, -, hown, hts, -⟩ := K
  intro r H locs ls st' g0 g1 g2 g3 g4 g5
  obtain ⟨w, q1, q2⟩ := g4.2.2 _ _ hv
  have q1 : w = .int x := q1
  subst q1
  exact lv_iload_n hx hb dd hi q2 (kk r H locs ls _ g0 g1 g2 g3 g4 (zvs.i g5))
theorem z_lload (K : zK y cc nL ret hh d kc ks X) {i : Nat} {x : Int64} (dd : decode cc pc = .ok (.lload i, 2)) (hv : zl env i = some (.long x))
    (kk : zW X Q h k n (pc + 2) env (.long x :: st)) : zW X Q h k n pc env (st) := by
  obtain ⟨p, l, e, R, s, m, args, below, meth, c, D, dA, r0, A, mc, ms⟩ := X
  obtain ⟨hx, hb, hml, -, -, -, hown, hts, -⟩ := K
  intro r H locs ls st' g0 g1 g2 g3 g4 g5
  obtain ⟨w, q1, q2⟩ := g4.2.2 _ _ hv
  have q1 : w = .long x := q1
  subst q1
  exact lv_lload hx hb dd q2 (kk r H locs ls _ g0 g1 g2 g3 g4 (zvs.l g5))
theorem z_lload_n (K : zK y cc nL ret hh d kc ks X) {j : Fin 4} {i : Nat} {x : Int64} (dd : decode cc pc = .ok (.lload_n j, 1)) (hi : (j : Nat) = i) (hv : zl env i = some (.long x))
    (kk : zW X Q h k n (pc + 1) env (.long x :: st)) : zW X Q h k n pc env (st) := by
  obtain ⟨p, l, e, R, s, m, args, below, meth, c, D, dA, r0, A, mc, ms⟩ := X
  obtain ⟨hx, hb, hml, -, -, -, hown, hts, -⟩ := K
  intro r H locs ls st' g0 g1 g2 g3 g4 g5
  obtain ⟨w, q1, q2⟩ := g4.2.2 _ _ hv
  have q1 : w = .long x := q1
  subst q1
  exact lv_lload_n hx hb dd hi q2 (kk r H locs ls _ g0 g1 g2 g3 g4 (zvs.l g5))
theorem z_dload (K : zK y cc nL ret hh d kc ks X) {i : Nat} {x : UInt64} (dd : decode cc pc = .ok (.dload i, 2)) (hv : zl env i = some (.double x))
    (kk : zW X Q h k n (pc + 2) env (.double x :: st)) : zW X Q h k n pc env (st) := by
  obtain ⟨p, l, e, R, s, m, args, below, meth, c, D, dA, r0, A, mc, ms⟩ := X
  obtain ⟨hx, hb, hml, -, -, -, hown, hts, -⟩ := K
  intro r H locs ls st' g0 g1 g2 g3 g4 g5
  obtain ⟨w, q1, q2⟩ := g4.2.2 _ _ hv
  have q1 : w = .double x := q1
  subst q1
  exact lv_dload hx hb dd q2 (kk r H locs ls _ g0 g1 g2 g3 g4 (zvs.d g5))
theorem z_dload_n (K : zK y cc nL ret hh d kc ks X) {j : Fin 4} {i : Nat} {x : UInt64} (dd : decode cc pc = .ok (.dload_n j, 1)) (hi : (j : Nat) = i) (hv : zl env i = some (.double x))
    (kk : zW X Q h k n (pc + 1) env (.double x :: st)) : zW X Q h k n pc env (st) := by
  obtain ⟨p, l, e, R, s, m, args, below, meth, c, D, dA, r0, A, mc, ms⟩ := X
  obtain ⟨hx, hb, hml, -, -, -, hown, hts, -⟩ := K
  intro r H locs ls st' g0 g1 g2 g3 g4 g5
  obtain ⟨w, q1, q2⟩ := g4.2.2 _ _ hv
  have q1 : w = .double x := q1
  subst q1
  exact lv_dload_n hx hb dd hi q2 (kk r H locs ls _ g0 g1 g2 g3 g4 (zvs.d g5))
theorem z_aload (K : zK y cc nL ret hh d kc ks X) {i : Nat} {v : Value} (dd : decode cc pc = .ok (.aload i, 2)) (hv : zl env i = some v) (hr : zisr v = true)
    (kk : zW X Q h k n (pc + 2) env (v :: st)) : zW X Q h k n pc env st := by
  obtain ⟨p, l, e, R, s, m, args, below, meth, c, D, dA, r0, A, mc, ms⟩ := X
  obtain ⟨hx, hb, hml, -, -, -, hown, hts, -⟩ := K
  intro r H locs ls st' g0 g1 g2 g3 g4 g5
  obtain ⟨w, q1, q2⟩ := g4.2.2 _ _ hv
  cases v with
  | ref a =>
    obtain ⟨b, e1, rfl⟩ := q1
    exact lv_aload hx hb dd q2 (kk r H locs ls _ g0 g1 g2 g3 g4 (g5.r e1))
  | null =>
    have q1 : w = .null := q1
    subst q1
    exact lv_aloadN hx hb dd q2 (kk r H locs ls _ g0 g1 g2 g3 g4 g5.n)
  | _ => cases hr
theorem z_aload_n (K : zK y cc nL ret hh d kc ks X) {j : Fin 4} {i : Nat} {v : Value} (dd : decode cc pc = .ok (.aload_n j, 1)) (hi : (j : Nat) = i) (hv : zl env i = some v) (hr : zisr v = true)
    (kk : zW X Q h k n (pc + 1) env (v :: st)) : zW X Q h k n pc env st := by
  obtain ⟨p, l, e, R, s, m, args, below, meth, c, D, dA, r0, A, mc, ms⟩ := X
  obtain ⟨hx, hb, hml, -, -, -, hown, hts, -⟩ := K
  intro r H locs ls st' g0 g1 g2 g3 g4 g5
  obtain ⟨w, q1, q2⟩ := g4.2.2 _ _ hv
  cases v with
  | ref a =>
    obtain ⟨b, e1, rfl⟩ := q1
    exact lv_aload_n hx hb dd hi q2 (kk r H locs ls _ g0 g1 g2 g3 g4 (g5.r e1))
  | null =>
    have q1 : w = .null := q1
    subst q1
    exact lv_aload_nN hx hb dd hi q2 (kk r H locs ls _ g0 g1 g2 g3 g4 g5.n)
  | _ => cases hr
theorem z_istore (K : zK y cc nL ret hh d kc ks X) {i : Nat} {x : Int32} (dd : decode cc pc = .ok (.istore i, 2)) (hn : i < nL) (hz : zlo env i = true)
    (kk : zW X Q h k n (pc + 2) ((i, .int x) :: env) st) : zW X Q h k n pc env (.int x :: st) := by
  obtain ⟨p, l, e, R, s, m, args, below, meth, c, D, dA, r0, A, mc, ms⟩ := X
  obtain ⟨hx, hb, hml, -, -, -, hown, hts, -⟩ := K
  intro r H locs ls st' g0 g1 g2 g3 g4 g5
  obtain ⟨_, rfl, g6⟩ := zvs_i g5
  exact lv_istore hx hb dd (zE.has g4) (by rw [hml]; exact hn) rfl (fun ls' hl => kk r H locs ls' _ g0 g1 g2 g3 (g4.store (v := .int x) (w := .int x) rfl rfl hz hl) g6)
theorem z_istore_n (K : zK y cc nL ret hh d kc ks X) {j : Fin 4} {i : Nat} {x : Int32} (dd : decode cc pc = .ok (.istore_n j, 1)) (hi : (j : Nat) = i) (hn : i < nL) (hz : zlo env i = true)
    (kk : zW X Q h k n (pc + 1) ((i, .int x) :: env) st) : zW X Q h k n pc env (.int x :: st) := by
  obtain ⟨p, l, e, R, s, m, args, below, meth, c, D, dA, r0, A, mc, ms⟩ := X
  obtain ⟨hx, hb, hml, -, -, -, hown, hts, -⟩ := K
  intro r H locs ls st' g0 g1 g2 g3 g4 g5
  obtain ⟨_, rfl, g6⟩ := zvs_i g5
  exact lv_istore_n hx hb dd hi (zE.has g4) (by rw [hml]; exact hn) rfl (fun ls' hl => kk r H locs ls' _ g0 g1 g2 g3 (g4.store (v := .int x) (w := .int x) rfl rfl hz hl) g6)
theorem z_astore (K : zK y cc nL ret hh d kc ks X) {i : Nat} {v : Value} (dd : decode cc pc = .ok (.astore i, 2)) (hr : zisr v = true) (hn : i < nL) (hz : zlo env i = true)
    (kk : zW X Q h k n (pc + 2) ((i, v) :: env) st) : zW X Q h k n pc env (v :: st) := by
  obtain ⟨p, l, e, R, s, m, args, below, meth, c, D, dA, r0, A, mc, ms⟩ := X
  obtain ⟨hx, hb, hml, -, -, -, hown, hts, -⟩ := K
  intro r H locs ls st' g0 g1 g2 g3 g4 g5
  cases v with
  | ref a =>
    obtain ⟨b, _, gr, rfl, g6⟩ := zvs_r g5
    exact lv_astore hx hb dd (zE.has g4) (by rw [hml]; exact hn) rfl (fun ls' hl => kk r H locs ls' _ g0 g1 g2 g3 (g4.store (v := .ref a) (w := .ref b) ⟨b, gr, rfl⟩ rfl hz hl) g6)
  | null =>
    obtain ⟨_, rfl, g6⟩ := zvs_n g5
    exact lv_astoreN hx hb dd (zE.has g4) (by rw [hml]; exact hn) rfl (fun ls' hl => kk r H locs ls' _ g0 g1 g2 g3 (g4.store (v := .null) (w := .null) rfl rfl hz hl) g6)
  | _ => cases hr
theorem z_astore_n (K : zK y cc nL ret hh d kc ks X) {j : Fin 4} {i : Nat} {v : Value} (dd : decode cc pc = .ok (.astore_n j, 1)) (hi : (j : Nat) = i) (hr : zisr v = true) (hn : i < nL) (hz : zlo env i = true)
    (kk : zW X Q h k n (pc + 1) ((i, v) :: env) st) : zW X Q h k n pc env (v :: st) := by
  obtain ⟨p, l, e, R, s, m, args, below, meth, c, D, dA, r0, A, mc, ms⟩ := X
  obtain ⟨hx, hb, hml, -, -, -, hown, hts, -⟩ := K
  intro r H locs ls st' g0 g1 g2 g3 g4 g5
  cases v with
  | ref a =>
    obtain ⟨b, _, gr, rfl, g6⟩ := zvs_r g5
    exact lv_astore_n hx hb dd hi (zE.has g4) (by rw [hml]; exact hn) rfl (fun ls' hl => kk r H locs ls' _ g0 g1 g2 g3 (g4.store (v := .ref a) (w := .ref b) ⟨b, gr, rfl⟩ rfl hz hl) g6)
  | null =>
    obtain ⟨_, rfl, g6⟩ := zvs_n g5
    exact lv_astore_nN hx hb dd hi (zE.has g4) (by rw [hml]; exact hn) rfl (fun ls' hl => kk r H locs ls' _ g0 g1 g2 g3 (g4.store (v := .null) (w := .null) rfl rfl hz hl) g6)
  | _ => cases hr
theorem z_iinc (K : zK y cc nL ret hh d kc ks X) {i : Nat} {j : Int} {x v : Int32} (dd : decode cc pc = .ok (.iinc i j, 3)) (hv : zl env i = some (.int x)) (he : x + Int32.ofInt j = v) (hn : i < nL) (hz : zlo env i = true)
    (kk : zW X Q h k n (pc + 3) ((i, .int v) :: env) st) : zW X Q h k n pc env st := by
  obtain ⟨p, l, e, R, s, m, args, below, meth, c, D, dA, r0, A, mc, ms⟩ := X
  obtain ⟨hx, hb, hml, -, -, -, hown, hts, -⟩ := K
  intro r H locs ls st' g0 g1 g2 g3 g4 g5
  obtain ⟨w, q1, q2⟩ := g4.2.2 _ _ hv
  have q1 : w = .int x := q1
  subst q1
  have hh9 := zE.has g4
  have h9 : lv_has ls c.maxLocals ((i, .int x) :: zreal env ls) := ⟨hh9.1, hh9.2.1, fun q hq => by
    rcases List.mem_cons.mp hq with rfl | hq
    · exact q2
    · exact hh9.2.2 q hq⟩
  refine lv_iinc (k := 0) hx hb dd h9 rfl he (by rw [hml]; exact hn) rfl (fun ls' hl => ?_)
  refine kk r H locs ls' _ g0 g1 g2 g3 (g4.store (v := .int v) (w := .int v) rfl rfl hz ⟨hl.1, hl.2.1, fun q hq => hl.2.2 q ?_⟩) g5
  rcases List.mem_cons.mp hq with rfl | hq
  · exact List.mem_cons_self
  · refine List.mem_cons_of_mem _ ?_
    simp only [List.filter_cons]
    split
    · exact List.mem_cons_of_mem _ hq
    · exact hq
theorem z_if_eq (K : zK y cc nL ret hh d kc ks X) {x : Int32} {off : Int} {tgt : Nat} (dd : decode cc pc = .ok (.ifCond .eq off, 3)) (ht : (pc : Int) + off = (tgt : Int))
    (kt : x = 0 → zW X Q h k n tgt env st) (kf : ¬ x = 0 → zW X Q h k n (pc + 3) env st) : zW X Q h k n pc env (.int x :: st) := by
  obtain ⟨p, l, e, R, s, m, args, below, meth, c, D, dA, r0, A, mc, ms⟩ := X
  obtain ⟨hx, hb, hml, -, -, -, hown, hts, -⟩ := K
  intro r H locs ls st' g0 g1 g2 g3 g4 g5
  obtain ⟨_, rfl, g6⟩ := zvs_i g5
  exact lv_if_eq hx hb dd ht (fun q => kt q r H locs ls _ g0 g1 g2 g3 g4 g6) (fun q => kf q r H locs ls _ g0 g1 g2 g3 g4 g6)
theorem z_icmp_eq (K : zK y cc nL ret hh d kc ks X) {x z : Int32} {off : Int} {tgt : Nat} (dd : decode cc pc = .ok (.if_icmp .eq off, 3)) (ht : (pc : Int) + off = (tgt : Int))
    (kt : x = z → zW X Q h k n tgt env st) (kf : ¬ x = z → zW X Q h k n (pc + 3) env st) : zW X Q h k n pc env (.int z :: .int x :: st) := by
  obtain ⟨p, l, e, R, s, m, args, below, meth, c, D, dA, r0, A, mc, ms⟩ := X
  obtain ⟨hx, hb, hml, -, -, -, hown, hts, -⟩ := K
  intro r H locs ls st' g0 g1 g2 g3 g4 g5
  obtain ⟨_, rfl, g6⟩ := zvs_i g5
  obtain ⟨_, rfl, g7⟩ := zvs_i g6
  exact lv_icmp_eq hx hb dd ht (fun q => kt q r H locs ls _ g0 g1 g2 g3 g4 g7) (fun q => kf q r H locs ls _ g0 g1 g2 g3 g4 g7)
theorem z_if_ne (K : zK y cc nL ret hh d kc ks X) {x : Int32} {off : Int} {tgt : Nat} (dd : decode cc pc = .ok (.ifCond .ne off, 3)) (ht : (pc : Int) + off = (tgt : Int))
    (kt : ¬ x = 0 → zW X Q h k n tgt env st) (kf : x = 0 → zW X Q h k n (pc + 3) env st) : zW X Q h k n pc env (.int x :: st) := by
  obtain ⟨p, l, e, R, s, m, args, below, meth, c, D, dA, r0, A, mc, ms⟩ := X
  obtain ⟨hx, hb, hml, -, -, -, hown, hts, -⟩ := K
  intro r H locs ls st' g0 g1 g2 g3 g4 g5
  obtain ⟨_, rfl, g6⟩ := zvs_i g5
  exact lv_if_ne hx hb dd ht (fun q => kt q r H locs ls _ g0 g1 g2 g3 g4 g6) (fun q => kf q r H locs ls _ g0 g1 g2 g3 g4 g6)
theorem z_icmp_ne (K : zK y cc nL ret hh d kc ks X) {x z : Int32} {off : Int} {tgt : Nat} (dd : decode cc pc = .ok (.if_icmp .ne off, 3)) (ht : (pc : Int) + off = (tgt : Int))
    (kt : ¬ x = z → zW X Q h k n tgt env st) (kf : x = z → zW X Q h k n (pc + 3) env st) : zW X Q h k n pc env (.int z :: .int x :: st) := by
  obtain ⟨p, l, e, R, s, m, args, below, meth, c, D, dA, r0, A, mc, ms⟩ := X
  obtain ⟨hx, hb, hml, -, -, -, hown, hts, -⟩ := K
  intro r H locs ls st' g0 g1 g2 g3 g4 g5
  obtain ⟨_, rfl, g6⟩ := zvs_i g5
  obtain ⟨_, rfl, g7⟩ := zvs_i g6
  exact lv_icmp_ne hx hb dd ht (fun q => kt q r H locs ls _ g0 g1 g2 g3 g4 g7) (fun q => kf q r H locs ls _ g0 g1 g2 g3 g4 g7)
theorem z_if_lt (K : zK y cc nL ret hh d kc ks X) {x : Int32} {off : Int} {tgt : Nat} (dd : decode cc pc = .ok (.ifCond .lt off, 3)) (ht : (pc : Int) + off = (tgt : Int))
    (kt : x < 0 → zW X Q h k n tgt env st) (kf : ¬ x < 0 → zW X Q h k n (pc + 3) env st) : zW X Q h k n pc env (.int x :: st) := by
  obtain ⟨p, l, e, R, s, m, args, below, meth, c, D, dA, r0, A, mc, ms⟩ := X
  obtain ⟨hx, hb, hml, -, -, -, hown, hts, -⟩ := K
  intro r H locs ls st' g0 g1 g2 g3 g4 g5
  obtain ⟨_, rfl, g6⟩ := zvs_i g5
  exact lv_if_lt hx hb dd ht (fun q => kt q r H locs ls _ g0 g1 g2 g3 g4 g6) (fun q => kf q r H locs ls _ g0 g1 g2 g3 g4 g6)
theorem z_icmp_lt (K : zK y cc nL ret hh d kc ks X) {x z : Int32} {off : Int} {tgt : Nat} (dd : decode cc pc = .ok (.if_icmp .lt off, 3)) (ht : (pc : Int) + off = (tgt : Int))
    (kt : x < z → zW X Q h k n tgt env st) (kf : ¬ x < z → zW X Q h k n (pc + 3) env st) : zW X Q h k n pc env (.int z :: .int x :: st) := by
  obtain ⟨p, l, e, R, s, m, args, below, meth, c, D, dA, r0, A, mc, ms⟩ := X
  obtain ⟨hx, hb, hml, -, -, -, hown, hts, -⟩ := K
  intro r H locs ls st' g0 g1 g2 g3 g4 g5
  obtain ⟨_, rfl, g6⟩ := zvs_i g5
  obtain ⟨_, rfl, g7⟩ := zvs_i g6
  exact lv_icmp_lt hx hb dd ht (fun q => kt q r H locs ls _ g0 g1 g2 g3 g4 g7) (fun q => kf q r H locs ls _ g0 g1 g2 g3 g4 g7)
theorem z_if_ge (K : zK y cc nL ret hh d kc ks X) {x : Int32} {off : Int} {tgt : Nat} (dd : decode cc pc = .ok (.ifCond .ge off, 3)) (ht : (pc : Int) + off = (tgt : Int))
    (kt : 0 ≤ x → zW X Q h k n tgt env st) (kf : ¬ 0 ≤ x → zW X Q h k n (pc + 3) env st) : zW X Q h k n pc env (.int x :: st) := by
  obtain ⟨p, l, e, R, s, m, args, below, meth, c, D, dA, r0, A, mc, ms⟩ := X
  obtain ⟨hx, hb, hml, -, -, -, hown, hts, -⟩ := K
  intro r H locs ls st' g0 g1 g2 g3 g4 g5
  obtain ⟨_, rfl, g6⟩ := zvs_i g5
  exact lv_if_ge hx hb dd ht (fun q => kt q r H locs ls _ g0 g1 g2 g3 g4 g6) (fun q => kf q r H locs ls _ g0 g1 g2 g3 g4 g6)
theorem z_icmp_ge (K : zK y cc nL ret hh d kc ks X) {x z : Int32} {off : Int} {tgt : Nat} (dd : decode cc pc = .ok (.if_icmp .ge off, 3)) (ht : (pc : Int) + off = (tgt : Int))
    (kt : z ≤ x → zW X Q h k n tgt env st) (kf : ¬ z ≤ x → zW X Q h k n (pc + 3) env st) : zW X Q h k n pc env (.int z :: .int x :: st) := by
  obtain ⟨p, l, e, R, s, m, args, below, meth, c, D, dA, r0, A, mc, ms⟩ := X
  obtain ⟨hx, hb, hml, -, -, -, hown, hts, -⟩ := K
  intro r H locs ls st' g0 g1 g2 g3 g4 g5
  obtain ⟨_, rfl, g6⟩ := zvs_i g5
  obtain ⟨_, rfl, g7⟩ := zvs_i g6
  exact lv_icmp_ge hx hb dd ht (fun q => kt q r H locs ls _ g0 g1 g2 g3 g4 g7) (fun q => kf q r H locs ls _ g0 g1 g2 g3 g4 g7)
theorem z_if_gt (K : zK y cc nL ret hh d kc ks X) {x : Int32} {off : Int} {tgt : Nat} (dd : decode cc pc = .ok (.ifCond .gt off, 3)) (ht : (pc : Int) + off = (tgt : Int))
    (kt : 0 < x → zW X Q h k n tgt env st) (kf : ¬ 0 < x → zW X Q h k n (pc + 3) env st) : zW X Q h k n pc env (.int x :: st) := by
  obtain ⟨p, l, e, R, s, m, args, below, meth, c, D, dA, r0, A, mc, ms⟩ := X
  obtain ⟨hx, hb, hml, -, -, -, hown, hts, -⟩ := K
  intro r H locs ls st' g0 g1 g2 g3 g4 g5
  obtain ⟨_, rfl, g6⟩ := zvs_i g5
  exact lv_if_gt hx hb dd ht (fun q => kt q r H locs ls _ g0 g1 g2 g3 g4 g6) (fun q => kf q r H locs ls _ g0 g1 g2 g3 g4 g6)
theorem z_icmp_gt (K : zK y cc nL ret hh d kc ks X) {x z : Int32} {off : Int} {tgt : Nat} (dd : decode cc pc = .ok (.if_icmp .gt off, 3)) (ht : (pc : Int) + off = (tgt : Int))
    (kt : z < x → zW X Q h k n tgt env st) (kf : ¬ z < x → zW X Q h k n (pc + 3) env st) : zW X Q h k n pc env (.int z :: .int x :: st) := by
  obtain ⟨p, l, e, R, s, m, args, below, meth, c, D, dA, r0, A, mc, ms⟩ := X
  obtain ⟨hx, hb, hml, -, -, -, hown, hts, -⟩ := K
  intro r H locs ls st' g0 g1 g2 g3 g4 g5
  obtain ⟨_, rfl, g6⟩ := zvs_i g5
  obtain ⟨_, rfl, g7⟩ := zvs_i g6
  exact lv_icmp_gt hx hb dd ht (fun q => kt q r H locs ls _ g0 g1 g2 g3 g4 g7) (fun q => kf q r H locs ls _ g0 g1 g2 g3 g4 g7)
theorem z_if_le (K : zK y cc nL ret hh d kc ks X) {x : Int32} {off : Int} {tgt : Nat} (dd : decode cc pc = .ok (.ifCond .le off, 3)) (ht : (pc : Int) + off = (tgt : Int))
    (kt : x ≤ 0 → zW X Q h k n tgt env st) (kf : ¬ x ≤ 0 → zW X Q h k n (pc + 3) env st) : zW X Q h k n pc env (.int x :: st) := by
  obtain ⟨p, l, e, R, s, m, args, below, meth, c, D, dA, r0, A, mc, ms⟩ := X
  obtain ⟨hx, hb, hml, -, -, -, hown, hts, -⟩ := K
  intro r H locs ls st' g0 g1 g2 g3 g4 g5
  obtain ⟨_, rfl, g6⟩ := zvs_i g5
  exact lv_if_le hx hb dd ht (fun q => kt q r H locs ls _ g0 g1 g2 g3 g4 g6) (fun q => kf q r H locs ls _ g0 g1 g2 g3 g4 g6)
theorem z_icmp_le (K : zK y cc nL ret hh d kc ks X) {x z : Int32} {off : Int} {tgt : Nat} (dd : decode cc pc = .ok (.if_icmp .le off, 3)) (ht : (pc : Int) + off = (tgt : Int))
    (kt : x ≤ z → zW X Q h k n tgt env st) (kf : ¬ x ≤ z → zW X Q h k n (pc + 3) env st) : zW X Q h k n pc env (.int z :: .int x :: st) := by
  obtain ⟨p, l, e, R, s, m, args, below, meth, c, D, dA, r0, A, mc, ms⟩ := X
  obtain ⟨hx, hb, hml, -, -, -, hown, hts, -⟩ := K
  intro r H locs ls st' g0 g1 g2 g3 g4 g5
  obtain ⟨_, rfl, g6⟩ := zvs_i g5
  obtain ⟨_, rfl, g7⟩ := zvs_i g6
  exact lv_icmp_le hx hb dd ht (fun q => kt q r H locs ls _ g0 g1 g2 g3 g4 g7) (fun q => kf q r H locs ls _ g0 g1 g2 g3 g4 g7)
theorem z_goto (K : zK y cc nL ret hh d kc ks X) {off : Int} {tgt : Nat} (dd : decode cc pc = .ok (.goto off, 3)) (ht : (pc : Int) + off = (tgt : Int))
    (kk : zW X Q h k n tgt env st) : zW X Q h k n pc env st := by
  obtain ⟨p, l, e, R, s, m, args, below, meth, c, D, dA, r0, A, mc, ms⟩ := X
  obtain ⟨hx, hb, hml, -, -, -, hown, hts, -⟩ := K
  intro r H locs ls st' g0 g1 g2 g3 g4 g5
  exact lv_goto hx hb dd ht (kk r H locs ls _ g0 g1 g2 g3 g4 g5)
theorem z_ifnonnull (K : zK y cc nL ret hh d kc ks X) {x : Nat} {off : Int} {tgt : Nat} (dd : decode cc pc = .ok (.ifnonnull off, 3)) (ht : (pc : Int) + off = (tgt : Int))
    (kk : zW X Q h k n tgt env st) : zW X Q h k n pc env (.ref x :: st) := by
  obtain ⟨p, l, e, R, s, m, args, below, meth, c, D, dA, r0, A, mc, ms⟩ := X
  obtain ⟨hx, hb, hml, -, -, -, hown, hts, -⟩ := K
  intro r H locs ls st' g0 g1 g2 g3 g4 g5
  obtain ⟨_, _, gr, rfl, g6⟩ := zvs_r g5
  exact lv_ifnonnull hx hb dd ht (kk r H locs ls _ g0 g1 g2 g3 g4 g6)
theorem z_ifnull (K : zK y cc nL ret hh d kc ks X) {x : Nat} {off : Int} (dd : decode cc pc = .ok (.ifnull off, 3))
    (kk : zW X Q h k n (pc + 3) env st) : zW X Q h k n pc env (.ref x :: st) := by
  obtain ⟨p, l, e, R, s, m, args, below, meth, c, D, dA, r0, A, mc, ms⟩ := X
  obtain ⟨hx, hb, hml, -, -, -, hown, hts, -⟩ := K
  intro r H locs ls st' g0 g1 g2 g3 g4 g5
  obtain ⟨_, _, gr, rfl, g6⟩ := zvs_r g5
  exact lv_ifnull hx hb dd (kk r H locs ls _ g0 g1 g2 g3 g4 g6)
theorem z_ifnullN (K : zK y cc nL ret hh d kc ks X) {off : Int} {tgt : Nat} (dd : decode cc pc = .ok (.ifnull off, 3)) (ht : (pc : Int) + off = (tgt : Int))
    (kk : zW X Q h k n tgt env st) : zW X Q h k n pc env (.null :: st) := by
  obtain ⟨p, l, e, R, s, m, args, below, meth, c, D, dA, r0, A, mc, ms⟩ := X
  obtain ⟨hx, hb, hml, -, -, -, hown, hts, -⟩ := K
  intro r H locs ls st' g0 g1 g2 g3 g4 g5
  obtain ⟨_, rfl, g6⟩ := zvs_n g5
  exact lv_ifnullN hx hb dd ht (kk r H locs ls _ g0 g1 g2 g3 g4 g6)
theorem z_ifnonnullN (K : zK y cc nL ret hh d kc ks X) {off : Int} (dd : decode cc pc = .ok (.ifnonnull off, 3))
    (kk : zW X Q h k n (pc + 3) env st) : zW X Q h k n pc env (.null :: st) := by
  obtain ⟨p, l, e, R, s, m, args, below, meth, c, D, dA, r0, A, mc, ms⟩ := X
  obtain ⟨hx, hb, hml, -, -, -, hown, hts, -⟩ := K
  intro r H locs ls st' g0 g1 g2 g3 g4 g5
  obtain ⟨_, rfl, g6⟩ := zvs_n g5
  exact lv_ifnonnullN hx hb dd (kk r H locs ls _ g0 g1 g2 g3 g4 g6)
theorem z_ldc2 (K : zK y cc nL ret hh d kc ks X) {idx : Nat} {v : Int64} (hw : Jvm.Cond.constantLong y.cls idx v ∈ lw_all) (dd : decode cc pc = .ok (.ldc2_w idx, 3))
    (kk : zW X Q h k n (pc + 3) env (.long v :: st)) : zW X Q h k n pc env st := by
  obtain ⟨p, l, e, R, s, m, args, below, meth, c, D, dA, r0, A, mc, ms⟩ := X
  obtain ⟨hx, hb, hml, -, -, -, hown, hts, -⟩ := K
  intro r H locs ls st' g0 g1 g2 g3 g4 g5
  exact lv_ldc2 hx hb hown (hts _ hw) dd (kk r H locs ls _ g0 g1 g2 g3 g4 g5.l)
theorem z_tableIn (K : zK y cc nL ret hh d kc ks X) {dflt lo hi : Int} {offs : Array Int} {len : Nat} {x : Int32} {off : Int} {tgt : Nat} (dd : decode cc pc = .ok (.tableswitch dflt lo hi offs, len)) (h1 : ¬ x.toInt < lo) (h2 : ¬ hi < x.toInt) (ho : offs[(x.toInt - lo).toNat]? = some off) (ht : (pc : Int) + off = (tgt : Int))
    (kk : zW X Q h k n tgt env st) : zW X Q h k n pc env (.int x :: st) := by
  obtain ⟨p, l, e, R, s, m, args, below, meth, c, D, dA, r0, A, mc, ms⟩ := X
  obtain ⟨hx, hb, hml, -, -, -, hown, hts, -⟩ := K
  intro r H locs ls st' g0 g1 g2 g3 g4 g5
  obtain ⟨_, rfl, g6⟩ := zvs_i g5
  exact lv_tableIn hx hb dd h1 h2 ho ht (kk r H locs ls _ g0 g1 g2 g3 g4 g6)
theorem z_tableOut (K : zK y cc nL ret hh d kc ks X) {dflt lo hi : Int} {offs : Array Int} {len : Nat} {x : Int32} {tgt : Nat} (dd : decode cc pc = .ok (.tableswitch dflt lo hi offs, len)) (h1 : x.toInt < lo ∨ hi < x.toInt) (ht : (pc : Int) + dflt = (tgt : Int))
    (kk : zW X Q h k n tgt env st) : zW X Q h k n pc env (.int x :: st) := by
  obtain ⟨p, l, e, R, s, m, args, below, meth, c, D, dA, r0, A, mc, ms⟩ := X
  obtain ⟨hx, hb, hml, -, -, -, hown, hts, -⟩ := K
  intro r H locs ls st' g0 g1 g2 g3 g4 g5
  obtain ⟨_, rfl, g6⟩ := zvs_i g5
  exact lv_tableOut hx hb dd h1 ht (kk r H locs ls _ g0 g1 g2 g3 g4 g6)
theorem zW.cut {e2 : List (Nat × Value)} (hs : zsub env e2) (kk : zW X Q h k n pc e2 st) : zW X Q h k n pc env st := by
  obtain ⟨p, l, e, R, s, m, args, below, meth, c, D, dA, r0, A, mc, ms⟩ := X
  intro r H locs ls st' g0 g1 g2 g3 g4 g5
  exact kk r H locs ls _ g0 g1 g2 g3 (g4.sub hs) g5
theorem zW.widen {k' n' : Nat} (h1 : k ≤ k') (h2 : n ≤ n') (kk : zW X Q h k' n' pc env st) : zW X Q h k n pc env st := by
  obtain ⟨p, l, e, R, s, m, args, below, meth, c, D, dA, r0, A, mc, ms⟩ := X
  intro r H locs ls st' g0 g1 g2 g3 g4 g5
  exact W.widen h1 h2 (kk r H locs ls _ g0 g1 g2 g3 g4 g5)
end ZP
