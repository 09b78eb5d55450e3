/-! ===== the machine of names: cells have names (numbers), a heap is a map from names to pictures; r says at which address a name lies ===== -/
abbrev zC : Type := (Nat × vp_A) ⊕ (Nat × List Value)
abbrev zH : Type := Nat → Option zC
abbrev zR : Type := Nat → Option Nat
abbrev zO : Type := Option Value ⊕ Nat
/-- a value, its name as an address -/
def zv (r : zR) (v w : Value) : Prop := match v with
  | .ref n => ∃ a, r n = some a ∧ w = .ref a
  | u => w = u
def zvs (r : zR) : List Value → List Value → Prop
  | [], m => m = []
  | v :: l, m => ∃ w m', m = w :: m' ∧ zv r v w ∧ zvs r l m'
def zvo (r : zR) (v w : Option Value) : Prop := match v with
  | none => w = none
  | some u => ∃ x, w = some x ∧ zv r u x
def zsb (r r' : zR) : Prop := ∀ n a, (r n = some a → r' n = some a) ∧ (n < 1000 → r' n = some a → r n = some a)
theorem zsb.rf {r : zR} : zsb r r := fun _ _ => ⟨fun h => h, fun _ h => h⟩
theorem zsb.tr {a b c : zR} (h : zsb a b) (g : zsb b c) : zsb a c := fun n x => ⟨fun q => (g n x).1 ((h n x).1 q), fun q1 q2 => (h n x).2 q1 ((g n x).2 q1 q2)⟩
theorem zv.mono {r r' : zR} (h : zsb r r') {v w : Value} (hv : zv r v w) : zv r' v w := by
  cases v with
  | ref n => obtain ⟨a, h1, h2⟩ := hv; exact ⟨a, (h _ _).1 h1, h2⟩
  | _ => exact hv
theorem zvs.mono {r r' : zR} (h : zsb r r') : ∀ {l m : List Value}, zvs r l m → zvs r' l m
  | [], _, q => q
  | _ :: _, _, ⟨w, m', e, a, b⟩ => ⟨w, m', e, a.mono h, zvs.mono h b⟩
theorem zvs_i {r : zR} {x : Int32} {l m : List Value} (h : zvs r (.int x :: l) m) : ∃ m', m = .int x :: m' ∧ zvs r l m' := by
  obtain ⟨w, m', e, a, b⟩ := h
  have a : w = .int x := a
  exact ⟨m', by rw [e, a], b⟩
theorem zvs_l {r : zR} {x : Int64} {l m : List Value} (h : zvs r (.long x :: l) m) : ∃ m', m = .long x :: m' ∧ zvs r l m' := by
  obtain ⟨w, m', e, a, b⟩ := h
  have a : w = .long x := a
  exact ⟨m', by rw [e, a], b⟩
theorem zvs_d {r : zR} {x : UInt64} {l m : List Value} (h : zvs r (.double x :: l) m) : ∃ m', m = .double x :: m' ∧ zvs r l m' := by
  obtain ⟨w, m', e, a, b⟩ := h
  have a : w = .double x := a
  exact ⟨m', by rw [e, a], b⟩
theorem zvs_n {r : zR} {l m : List Value} (h : zvs r (.null :: l) m) : ∃ m', m = .null :: m' ∧ zvs r l m' := by
  obtain ⟨w, m', e, a, b⟩ := h
  have a : w = .null := a
  exact ⟨m', by rw [e, a], b⟩
theorem zvs_r {r : zR} {n : Nat} {l m : List Value} (h : zvs r (.ref n :: l) m) : ∃ a m', r n = some a ∧ m = .ref a :: m' ∧ zvs r l m' := by
  obtain ⟨w, m', e, ⟨a, h1, h2⟩, b⟩ := h
  exact ⟨a, m', h1, by rw [e, h2], b⟩
theorem zvs_c {r : zR} {v : Value} {l m : List Value} (h : zvs r (v :: l) m) : ∃ w m', m = w :: m' ∧ zv r v w ∧ zvs r l m' := h
theorem zvs.i {r : zR} {x : Int32} {l m : List Value} (h : zvs r l m) : zvs r (.int x :: l) (.int x :: m) := ⟨_, _, rfl, rfl, h⟩
theorem zvs.l {r : zR} {x : Int64} {l m : List Value} (h : zvs r l m) : zvs r (.long x :: l) (.long x :: m) := ⟨_, _, rfl, rfl, h⟩
theorem zvs.d {r : zR} {x : UInt64} {l m : List Value} (h : zvs r l m) : zvs r (.double x :: l) (.double x :: m) := ⟨_, _, rfl, rfl, h⟩
theorem zvs.n {r : zR} {l m : List Value} (h : zvs r l m) : zvs r (.null :: l) (.null :: m) := ⟨_, _, rfl, rfl, h⟩
theorem zvs.r {r : zR} {n a : Nat} {l m : List Value} (e : r n = some a) (h : zvs r l m) : zvs r (.ref n :: l) (.ref a :: m) := ⟨_, _, rfl, ⟨a, e, rfl⟩, h⟩
theorem zvs.c {r : zR} {v w : Value} {l m : List Value} (e : zv r v w) (h : zvs r l m) : zvs r (v :: l) (w :: m) := ⟨_, _, rfl, e, h⟩
theorem zv.cat {r : zR} {v w : Value} (h : zv r v w) : w.category = v.category := by
  cases v with
  | ref n => obtain ⟨a, -, rfl⟩ := h; rfl
  | _ => have h : w = _ := h; rw [h]
theorem zvs.len {r : zR} : ∀ {l m : List Value}, zvs r l m → m.length = l.length
  | [], _, q => by have q : _ = [] := q; rw [q]
  | _ :: _, _, ⟨w, m', e, a, b⟩ => by rw [e, List.length_cons, List.length_cons, zvs.len b]
theorem zvs.cats {r : zR} : ∀ {l m : List Value}, zvs r l m → (m.map fun v => v.category).sum = (l.map fun v => v.category).sum
  | [], _, q => by have q : _ = [] := q; rw [q]
  | _ :: _, _, ⟨w, m', e, a, b⟩ => by rw [e, List.map_cons, List.map_cons, List.sum_cons, List.sum_cons, zvs.cats b, a.cat]
theorem zvs.app {r : zR} {b b' : List Value} (hb : zvs r b b') : ∀ {a a' : List Value}, zvs r a a' → zvs r (a ++ b) (a' ++ b')
  | [], _, q => by have q : _ = [] := q; rw [q]; exact hb
  | _ :: _, _, ⟨w, m', e, x, y⟩ => by rw [e]; exact ⟨w, m' ++ b', rfl, x, zvs.app hb y⟩
theorem zvs.split {r : zR} {b : List Value} : ∀ {a m : List Value}, zvs r (a ++ b) m → ∃ a' b', m = a' ++ b' ∧ zvs r a a' ∧ zvs r b b'
  | [], m, q => ⟨[], m, rfl, rfl, q⟩
  | _ :: _, _, ⟨w, m', e, x, y⟩ => by
    obtain ⟨a', b', e1, h1, h2⟩ := zvs.split y
    exact ⟨w :: a', b', by rw [e, e1]; rfl, ⟨w, a', rfl, x, h1⟩, h2⟩
theorem zvs.rev {r : zR} : ∀ {a m : List Value}, zvs r a m → zvs r a.reverse m.reverse
  | [], _, q => by have q : _ = [] := q; rw [q]; exact rfl
  | v :: a, _, ⟨w, m', e, x, y⟩ => by
    rw [e, List.reverse_cons, List.reverse_cons]
    exact zvs.app (show zvs r [v] [w] from ⟨w, [], rfl, x, rfl⟩) (zvs.rev y)
theorem zvs.at {r : zR} : ∀ {a m : List Value} {k : Nat} {v : Value}, zvs r a m → a[k]? = some v → ∃ w, m[k]? = some w ∧ zv r v w
  | [], _, k, v, _, h => by simp at h
  | u :: a, _, 0, v, ⟨w, m', e, x, y⟩, h => by
    have h : u = v := Option.some.inj h
    subst h
    exact ⟨w, by rw [e]; rfl, x⟩
  | u :: a, _, k + 1, v, ⟨w, m', e, x, y⟩, h => by
    obtain ⟨w1, h1, h2⟩ := zvs.at (k := k) y h
    exact ⟨w1, by rw [e]; exact h1, h2⟩
theorem zvs.set {r : zR} {v w : Value} (hv : zv r v w) : ∀ {a m : List Value} {k : Nat}, zvs r a m → zvs r (a.set k v) (m.set k w)
  | [], _, k, q => by have q : _ = [] := q; rw [q]; exact rfl
  | u :: a, _, 0, ⟨w1, m', e, x, y⟩ => by rw [e]; exact ⟨w, m', rfl, hv, y⟩
  | u :: a, _, k + 1, ⟨w1, m', e, x, y⟩ => by rw [e]; exact ⟨w1, m'.set k w, rfl, x, zvs.set hv y⟩
/-! the locals -/
def zl : List (Nat × Value) → Nat → Option Value
  | [], _ => none
  | (j, v) :: l, i => cond (Nat.beq j i) (some v) (zl l i)
def zE (r : zR) (nL : Nat) (env : List (Nat × Value)) (ls : Array Slot) : Prop := ls.size = nL ∧ lv_wf ls ∧ ∀ (i : Nat) (v : Value), zl env i = some v → ∃ w, zv r v w ∧ ls[i]? = some (.val w)
theorem zE.mono {r r' : zR} {nL : Nat} {env : List (Nat × Value)} {ls : Array Slot} (h : zsb r r') (q : zE r nL env ls) : zE r' nL env ls :=
  ⟨q.1, q.2.1, fun i v e => by obtain ⟨w, a, b⟩ := q.2.2 i v e; exact ⟨w, a.mono h, b⟩⟩
/-- the listed locals are these -/
def zsub (env : List (Nat × Value)) : List (Nat × Value) → Prop
  | [] => True
  | q :: l => zl env q.1 = some q.2 ∧ zsub env l
theorem zsub.lk {env : List (Nat × Value)} : ∀ {e2 : List (Nat × Value)}, zsub env e2 → ∀ (i : Nat) (v : Value), zl e2 i = some v → zl env i = some v
  | [], _, i, v, h => by cases h
  | (j, u) :: l, ⟨h1, h2⟩, i, v, h => by
    by_cases hj : j = i
    · subst hj
      have e : zl ((j, u) :: l) j = some u := by simp [zl]
      rw [e] at h
      rw [← h]
      exact h1
    · have e : zl ((j, u) :: l) i = zl l i := by
        have : Nat.beq j i = false := by
          cases hb : Nat.beq j i with
          | false => rfl
          | true => exact absurd (Nat.eq_of_beq_eq_true hb) hj
        simp [zl, this]
      rw [e] at h
      exact h2.lk i v h
theorem zE.sub {r : zR} {nL : Nat} {env e2 : List (Nat × Value)} {ls : Array Slot} (q : zE r nL env ls) (h : zsub env e2) : zE r nL e2 ls := ⟨q.1, q.2.1, fun i v e => q.2.2 i v (h.lk i v e)⟩
/-- no long or double ends in the slot i -/
def zlo (env : List (Nat × Value)) (i : Nat) : Bool := match i with
  | 0 => true
  | j + 1 => match zl env j with
    | none => true
    | some v => Nat.beq v.category 1
/-! classes, arrays -/
abbrev zcl : List vw_C := [(RX4, TX4, 37), (RX1, TX1, 6), (RX2, TX2, 13), (RX3, TX3, 2), (RX5, TX5, 2), (RX6, TX6, 6), (RX7, TX7, 2), (RX8, TX8, 7), (RX9, TX9, 7), (RX10, TX10, 5), (RX11, TX11, 9), (RX12, TX12, 3), (RX13, TX13, 2), (RX14, TX14, 2), (RX15, TX15, 8), (RX16, TX16, 1), (RX17, TX17, 7), (RX18, TX18, 7), (RJ2, TJ2, 3), (RJ7, TJ7, 4), (RJ8, TJ8, 4), (RJ21, TJ21, 1), (RJ13, TJ13, 6), (RJ14, TJ14, 6), (RJ15, TJ15, 6), (RJ19, TJ19, 6)]
/-- the kinds of array: int, byte, boolean, char, long, double, Object -/
def zft : Nat → FieldType
  | 0 => .int
  | 1 => .byte
  | 2 => .boolean
  | 3 => .char
  | 4 => .long
  | 5 => .double
  | _ => .object "java/lang/Object"
abbrev zty (dA : Nat → ClassId) : List (ClassId × FieldType) := [(dA 0, zft 0), (dA 1, zft 1), (dA 2, zft 2), (dA 3, zft 3), (dA 4, zft 4), (dA 5, zft 5), (dA 6, zft 6)]
def zrf (r : zR) (f g : Nat → Option Nat) : Prop := ∀ j, match f j with
  | none => g j = none
  | some n => ∃ a, r n = some a ∧ g j = some a
/-- nobody holds the monitor of the cell at a -/
def zmo (a : Nat) (H : Heap) : Prop := ∃ cell : Cell, H[a]? = some cell ∧ cell.monitor.owner = none ∧ cell.monitor.count = 0
theorem zmo.kept {a : Nat} {H H1 : Heap} (h : zmo a H) (e : H1[a]? = H[a]?) : zmo a H1 := by
  obtain ⟨cell, h1, h2⟩ := h
  exact ⟨cell, by rw [e]; exact h1, h2⟩
/-- the classes of what can be thrown: of them the monitor is known -/
def zmk (ci : Nat) : Bool := ci == 7 || ci == 8 || ci == 14 || ci == 16 || ci == 17 || Nat.ble 22 ci
/-- the cell at a is as the picture says; class numbers from 1000 on: nothing is said -/
def zc (D : va_G) (dA : Nat → ClassId) (r : zR) (c : zC) (a : Nat) (H : Heap) : Prop := match c with
  | .inr (ci, fs) => 1000 ≤ ci ∨ ∃ fs', zvs r fs fs' ∧ va_at D zcl (a, .inr (ci, fs')) H ∧ (zmk ci = true → zmo a H)
  | .inl (ty, n, .inr (.inr (.inr (.inr f)))) => ∃ g, zrf r f g ∧ va_at D zcl (a, .inl (dA ty, n, .inr (.inr (.inr (.inr g))))) H
  | .inl (ty, n, x) => va_at D zcl (a, .inl (dA ty, n, x)) H
theorem zrf.mono {r r' : zR} (h : zsb r r') {f g : Nat → Option Nat} (q : zrf r f g) : zrf r' f g := by
  intro j
  have q := q j
  cases hf : f j with
  | none => rw [hf] at q; exact q
  | some n =>
    rw [hf] at q
    obtain ⟨a, h1, h2⟩ := q
    exact ⟨a, (h _ _).1 h1, h2⟩
theorem zc.mono {D : va_G} {dA : Nat → ClassId} {r r' : zR} (h : zsb r r') {c : zC} {a : Nat} {H : Heap} (q : zc D dA r c a H) : zc D dA r' c a H := by
  match c, q with
  | .inr (ci, fs), q => 
    rcases q with q | ⟨fs', h1, h2, h3⟩
    · exact Or.inl q
    · exact Or.inr ⟨fs', h1.mono h, h2, h3⟩
  | .inl (ty, n, .inr (.inr (.inr (.inr f)))), ⟨g, h1, h2⟩ => exact ⟨g, h1.mono h, h2⟩
  | .inl (ty, n, .inl f), q => exact q
  | .inl (ty, n, .inr (.inl f)), q => exact q
  | .inl (ty, n, .inr (.inr (.inl f))), q => exact q
  | .inl (ty, n, .inr (.inr (.inr (.inl f)))), q => exact q
theorem zc.kept {D : va_G} {dA : Nat → ClassId} {r : zR} {c : zC} {a : Nat} {H H1 : Heap} (q : zc D dA r c a H) (e : H1[a]? = H[a]?) : zc D dA r c a H1 := by
  match c, q with
  | .inr (ci, fs), q =>
    rcases q with q | ⟨fs', h1, h2, h3⟩
    · exact Or.inl q
    · exact Or.inr ⟨fs', h1, h2.kept e, fun hk => (h3 hk).kept e⟩
  | .inl (ty, n, .inr (.inr (.inr (.inr f)))), ⟨g, h1, h2⟩ => exact ⟨g, h1, h2.kept e⟩
  | .inl (ty, n, .inl f), q => exact va_at.kept (D := D) (cl := zcl) (q := (a, .inl (dA ty, n, .inl f))) q e
  | .inl (ty, n, .inr (.inl f)), q => exact va_at.kept (D := D) (cl := zcl) (q := (a, .inl (dA ty, n, .inr (.inl f)))) q e
  | .inl (ty, n, .inr (.inr (.inl f))), q => exact va_at.kept (D := D) (cl := zcl) (q := (a, .inl (dA ty, n, .inr (.inr (.inl f))))) q e
  | .inl (ty, n, .inr (.inr (.inr (.inl f)))), q => exact va_at.kept (D := D) (cl := zcl) (q := (a, .inl (dA ty, n, .inr (.inr (.inr (.inl f)))))) q e
/-- pictures that a cell of others may hold in a weaker sense: small Integers, an empty array -/
def wkc : zC → Bool
  | .inr (ci, _) => ci == 21
  | .inl (_, n, .inr (.inr (.inr (.inr _)))) => n == 0
  | .inl _ => false
/-- a cell of others: its monitor and the like are not known -/
def zcw (D : va_G) (dA : Nat → ClassId) (c : zC) (a : Nat) (H : Heap) : Prop := ∃ cell : Cell, H[a]? = some cell ∧ cell.vm.isStatics = false ∧ cell.vm ≠ .unknown ∧ ((∃ v : Int32, c = .inr (21, [.int v]) ∧ cell.cls = D.1 21 ∧ cell.slots[D.2 21 0]? = some (.int v)) ∨ (∃ (ty : Nat) (f : Nat → Option Nat), c = .inl (ty, 0, .inr (.inr (.inr (.inr f)))) ∧ cell.cls = dA ty ∧ cell.slots.size.toInt32 = Int32.ofNat 0))
theorem zcw.kept {D : va_G} {dA : Nat → ClassId} {c : zC} {a : Nat} {H H1 : Heap} (q : zcw D dA c a H) (e : H1[a]? = H[a]?) : zcw D dA c a H1 := by
  obtain ⟨cell, h1, h2⟩ := q
  exact ⟨cell, by rw [e]; exact h1, h2⟩
theorem zcw.wk {D : va_G} {dA : Nat → ClassId} {c : zC} {a : Nat} {H : Heap} (q : zcw D dA c a H) : wkc c = true := by
  obtain ⟨cell, -, -, -, ⟨v, rfl, -⟩ | ⟨ty, f, rfl, -⟩⟩ := q
  · rfl
  · rfl
/-- the heap H holds the pictures h; names below 1000 are cells of others, which nobody writes; of what the names 3 to 8 name nothing is known, not even that it is there -/
def zS (D : va_G) (dA : Nat → ClassId) (r : zR) (h : zH) (H : Heap) : Prop :=
  (∀ n, h n = none ↔ r n = none) ∧ (∀ n m a, r n = some a → r m = some a → 1000 ≤ n → (m < 3 ∨ 8 < m) → n = m) ∧ (∀ n a, r n = some a → ((n < 3 ∨ 8 < n) ∧ a < H.size) ∨ ((3 ≤ n ∧ n ≤ 8) ∧ h n = some (.inr (1000, [])))) ∧ ∀ n c a, h n = some c → r n = some a → zc D dA r c a H ∨ (n < 1000 ∧ zcw D dA c a H)
def zA (A : Nat → Prop) (r : zR) : Prop := (∀ n a, 1000 ≤ n → r n = some a → A a) ∧ ∀ n a, n < 1000 → (n < 3 ∨ 8 < n) → r n = some a → ¬ A a
theorem zS.lt {D : va_G} {dA : Nat → ClassId} {r : zR} {h : zH} {H : Heap} (hS : zS D dA r h H) {n a : Nat} (ha : r n = some a) (hd : n < 3 ∨ 8 < n) : a < H.size := by
  rcases hS.2.2.1 n a ha with q | q
  · exact q.2
  · omega
theorem zS.tri {D : va_G} {dA : Nat → ClassId} {r : zR} {h : zH} {H : Heap} (hS : zS D dA r h H) {n a : Nat} {c : zC} (hn : h n = some c) (ha : r n = some a) (hd : ¬ (n < 3 ∨ 8 < n)) : c = .inr (1000, []) := by
  rcases hS.2.2.1 n a ha with q | q
  · exact absurd q.1 hd
  · exact Option.some.inj (hn.symm.trans q.2)
theorem zc.tri {D : va_G} {dA : Nat → ClassId} {r : zR} {H : Heap} {a : Nat} {c : zC} (e : c = .inr (1000, [])) : zc D dA r c a H := by
  subst e
  exact Or.inl (Nat.le_refl _)
theorem zS.at {D : va_G} {dA : Nat → ClassId} {r : zR} {h : zH} {H : Heap} (hS : zS D dA r h H) {n a : Nat} {c : zC} (hn : h n = some c) (ha : r n = some a) (hw : wkc c = false ∨ 1000 ≤ n := by first | exact Or.inl rfl | exact Or.inr (by assumption)) : zc D dA r c a H := by
  rcases hS.2.2.2 n c a hn ha with q | ⟨q1, q2⟩
  · exact q
  · rcases hw with z | z
    · rw [q2.wk] at z; cases z
    · omega
def zup (h : zH) (n : Nat) (c : zC) : zH := fun m => cond (Nat.beq m n) (some c) (h m)
theorem zup_at (h : zH) (n : Nat) (c : zC) : zup h n c n = some c := by simp [zup]
theorem zup_ne {h : zH} {n m : Nat} {c : zC} (e : m ≠ n) : zup h n c m = h m := by
  have : Nat.beq m n = false := by
    cases hb : Nat.beq m n with
    | false => rfl
    | true => exact absurd (Nat.eq_of_beq_eq_true hb) e
  simp [zup, this]
/-- the cell named n changes -/
theorem zS.put {D : va_G} {dA : Nat → ClassId} {r : zR} {h : zH} {H H1 : Heap} (hS : zS D dA r h H) {n a : Nat} {c c1 : zC} (hn : h n = some c) (h8 : 1000 ≤ n) (ha : r n = some a) (hc : zc D dA r c1 a H1) (z : H1.size = H.size) (o : ∀ q, q ≠ a → H1[q]? = H[q]?) : zS D dA r (zup h n c1) H1 := by
  refine ⟨fun m => ?_, hS.2.1, fun m b e => by rw [z]; exact (hS.2.2.1 m b e).imp id (fun q => ⟨q.1, (zup_ne (by omega)).trans q.2⟩), fun m d b hm hb => ?_⟩
  · by_cases e : m = n
    · subst e
      rw [zup_at, ha]
      constructor <;> (intro q; cases q)
    · rw [zup_ne e]
      exact hS.1 m
  · by_cases e : m = n
    · subst e
      rw [zup_at] at hm
      rw [ha] at hb
      cases hm
      cases hb
      exact Or.inl hc
    · rw [zup_ne e] at hm
      by_cases hd : m < 3 ∨ 8 < m
      rotate_left
      · exact Or.inl (zc.tri (hS.tri hm hb hd))
      have hne : b ≠ a := fun q => e (hS.2.1 n m a ha (by rw [hb, q]) h8 hd).symm
      exact (hS.2.2.2 m d b hm hb).imp (fun q => q.kept (o b hne)) (fun q => ⟨q.1, q.2.kept (o b hne)⟩)
theorem zpriv_warm {s U : State} {y : MethodName} (hW : s.WarmedH U.vm) (h : va_Nw (.privateMethod y) s) : va_Nw (.privateMethod y) U := by
  have hal := hW.alike
  have e1 : U.methodNamed? y = s.methodNamed? y := by rw [State.methodNamed?_of_vm (show U.vm = (s.setVm U.vm).vm from rfl), State.methodNamed?_setVm hal]
  have e2 : U.vm.method? = s.vm.method? := funext hal.method?
  have h9 := h
  simp only [va_Nw, Cond.before, Cond.holds, Cond.value, e1, e2] at h9 ⊢
  exact h9
/-- statics and the like: what the methods take as given of the start; see zG -/
def zNk : Cond → Bool
  | .fieldLinkNest _ _ _ _ _ _ => true
  | .methodLinkNest _ _ _ _ => true
  | .castable _ _ => true
  | .privateMethod _ => true
  | _ => false
def zN (U : State) : Prop := ∀ w ∈ lw_tbl, zNk w = true → va_Nw w U
theorem zN.moved {s U : State} (hW : s.WarmedH U.vm) (h : zN s) : zN U := by
  intro w hw hk
  have q := h w hw hk
  cases w with
  | fieldLinkNest _ _ _ _ _ _ => exact va_Nw.warmF hW q
  | methodLinkNest _ _ _ _ => exact va_Nw.warmM hW q
  | castable _ _ => exact va_Nw.warmC hW q
  | privateMethod y => exact zpriv_warm hW q
  | _ => cases hk
/-- statics that nobody writes, with their values (names below 1000) -/
def zst : List (String × String × String × Value) := [("java/util/ArrayList", "DEFAULTCAPACITY_EMPTY_ELEMENTDATA", "[Ljava/lang/Object;", .ref 1), ("java/lang/Throwable", "UNASSIGNED_STACK", "[Ljava/lang/StackTraceElement;", .ref 3), ("java/lang/Throwable", "SUPPRESSED_SENTINEL", "Ljava/util/List;", .ref 4), ("jdk/internal/util/Preconditions", "SIOOBE_FORMATTER", "Ljava/util/function/BiFunction;", .ref 5), ("java/lang/Integer$IntegerCache", "cache", "[Ljava/lang/Integer;", .ref 6), ("java/lang/Integer$IntegerCache", "high", "I", .int 127), ("java/lang/String", "COMPACT_STRINGS", "Z", .int 1), ("java/lang/StringUTF16", "$assertionsDisabled", "Z", .int 1), ("java/lang/StringUTF16", "HI_BYTE_SHIFT", "I", .int 0), ("java/lang/StringUTF16", "LO_BYTE_SHIFT", "I", .int 8)]
def zG (A : Nat → Prop) (r : zR) (U : State) : Prop := (∀ q ∈ zst, ∃ w, va_Z q.1 q.2.1 q.2.2.1 w A U U.heap ∧ match q.2.2.2 with
  | .ref n => (∀ a, r n = some a → w = .ref a) ∧ (r (n + 20) ≠ none → w = .null)
  | u => w = u) ∧ (∀ a, r 7 = some a → va_Mi "[Ljava/lang/Object;" a U) ∧ ∃ ad : Nat → Nat, (∀ a, r 6 = some a → va_T (.object "java/lang/Integer") a 256 (fun k => .ref (ad k)) A U U.heap) ∧ (∀ k a, k < 256 → r (300 + k) = some a → a = ad k) ∧ vx_L "java/lang/Throwable" "UNASSIGNED_STACK" "[Ljava/lang/StackTraceElement;" A U U.heap ∧ vx_L "java/lang/Throwable" "SUPPRESSED_SENTINEL" "Ljava/util/List;" A U U.heap
theorem zst_lt : ∀ q ∈ zst, ∀ n, q.2.2.2 = .ref n → n < 900 := by
  have h9 : (zst.all fun q => match q.2.2.2 with
    | .ref n => decide (n < 900)
    | _ => true) = true := by decide +kernel
  intro q hq n hn
  have h8 := List.all_eq_true.mp h9 q hq
  rw [hn] at h8
  exact of_decide_eq_true h8
theorem zsb.eq {r r' : zR} (h : zsb r r') {n : Nat} (hn : n < 1000) : r' n = r n := by
  cases e : r' n with
  | some a => exact ((h n a).2 hn e).symm
  | none =>
    cases e2 : r n with
    | none => rfl
    | some a => rw [(h n a).1 e2] at e; cases e
theorem zG.moved0 {A : Nat → Prop} {r0 r : zR} {s U : State} (hvm : s.vm.Alike U.vm) (h0 : zsb r0 r) (hk : ∀ a : Nat, a < s.heap.size → ¬ A a → U.heap[a]? = s.heap[a]?) (h : zG A r0 s) : zG A r U := by
  obtain ⟨h1, h2, ad, h3, h4, h5, h6⟩ := h
  refine ⟨fun q hq => ?_, fun a ha => (h2 a (by rw [← h0.eq (by omega)]; exact ha)).moved hvm, ad, fun a ha => ((h3 a (by rw [← h0.eq (by omega)]; exact ha)).kept hk).moved hvm, fun k a hk ha => h4 k a hk (by rw [← h0.eq (by omega)]; exact ha), (h5.kept hk).moved hvm, (h6.kept hk).moved hvm⟩
  obtain ⟨w, g1, g2⟩ := h1 q hq
  refine ⟨w, (g1.kept hk).moved hvm, ?_⟩
  have hz := zst_lt q hq
  revert g2 hz
  cases q.2.2.2 with
  | ref n =>
    intro g2 hz
    have hn : n < 900 := hz n rfl
    refine ⟨fun a ha => g2.1 a (by rw [← h0.eq (Nat.lt_trans hn (by decide))]; exact ha), fun ha => g2.2 (by rw [← h0.eq (Nat.lt_of_lt_of_le (Nat.add_lt_add_right hn 20) (by decide))]; exact ha)⟩
  | _ => intro g2 _; exact g2
/-- pairs of classes of which the first can't be taken for the second -/
def zncl : List (String × String) := (flatC (Jvm.Cond.and given_1 narrow_1)).filterMap fun w => match w with
  | .not (.castable a b) => some (a, b)
  | _ => none
abbrev yToArr : MethodName := ⟨"java/util/Collection", "toArray", "()[Ljava/lang/Object;"⟩
def zNc (U : State) : Prop := (∀ q ∈ zncl, va_Nc q.1 q.2 U) ∧ va_AO "java/lang/Object" U ∧ va_Dc U ∧ va_Fw RJ2 yToArr yJ2_toArray U
theorem zNc.moved {s U : State} (hvm : s.vm.Alike U.vm) (h : zNc s) : zNc U := ⟨fun q hq => va_Nc.moved hvm (h.1 q hq), va_AO.moved hvm h.2.1, va_Dc.moved hvm h.2.2.1, va_Fw.moved (by decide) hvm h.2.2.2⟩
/-- what a method ends with -/
def zPost (D : va_G) (dA : Nat → ClassId) (r0 : zR) (A : Nat → Prop) (mc ms : Nat) (Q : zO → zH → Prop) (s : State) (o : Outcome) (t : State) : Prop :=
  (∃ (v v' : Option Value) (r' : zR) (h' : zH), o = .returned v' ∧ zvo r' v v' ∧ Q (.inl v) h' ∧ zsb r0 r' ∧ zS D dA r' h' t.heap ∧ zA A r' ∧ va_F A s t ∧ ∃ L, FrameEnd s o t L mc ms ∧ ∀ q ∈ L, A q.base) ∨
  (∃ (n q : Nat) (r' : zR) (h' : zH) (E : String) (ce : Cell) (L : List Loc), o = .threw q ∧ r' n = some q ∧ Q (.inr n) h' ∧ zsb r0 r' ∧ zS D dA r' h' t.heap ∧ zA A r' ∧ va_F A s t ∧ t.heap[q]? = some ce ∧ ce.vm = .none ∧ s.vm.findClass E = some ce.cls ∧ s.WarmedH t.vm ∧ s.sameButNew ({ t with vm := s.vm } : State) L mc ms ∧ ∀ z ∈ L, A z.base)
/-- what a method begins with -/
def zPc (D : va_G) (dA : Nat → ClassId) (r0 : zR) (A : Nat → Prop) (as : List Value) (h : zH) : Array Value → State → Prop := fun a U =>
  a = as.toArray ∧ zS D dA r0 h U.heap ∧ zA A r0 ∧ (∀ q, U.heap.size ≤ q → A q) ∧ va_K D zcl (zty dA) U ∧ zN U ∧ zNc U ∧ zG A r0 U
/-- the room of a method of level d -/
def zRm (d mc ms : Nat) : Room := { frames := d, cells := mc, slots := ms, locals := 64 * d }
/-- THE CONTRACT of the method y with the words ws at level d: called with the values as in the heap h it ends with Q; at most mc cells of ms slots are new -/
def zMet (y : MethodName) (ws : List Cond) (d : Nat) (as : List Value) (h : zH) (Q : zO → zH → Prop) (mc ms : Nat) : Prop :=
  ∀ (l : Launch) (D : va_G) (dA : Nat → ClassId) (r0 : zR) (A : Nat → Prop) (as' : List Value), l.flags = flags0 → zvs r0 as as' →
    MetFree l y (headSpec ws (zRm d mc ms)) (zPc D dA r0 A as' h) (fun _ _ _ _ _ => True) (fun _ st o t => zPost D dA r0 A mc ms Q st o t)
abbrev zX : Type := Program × Launch × Env × Room × State × MethodId × Array Value × List Frame × Method × Code × va_G × (Nat → ClassId) × zR × (Nat → Prop) × Nat × Nat
def zM (X : zX) (Q : zO → zH → Prop) : State → Prop := match X with
  | (_, _, _, _, s, _, _, below, _, _, D, dA, r0, A, mc, ms) => fun t => ∃ o, t.status = .running ∧ Ended t below o ∧ zPost D dA r0 A mc ms Q s o t
/-- a frame of a method: at pc, its locals env, its stack st, in the heap h: it comes to the method's end, with Q -/
def zW (X : zX) (Q : zO → zH → Prop) (h : zH) (k n pc : Nat) (env : List (Nat × Value)) (st : List Value) : Prop := match X with
  | (p, l, e, R, s, m, args, below, meth, c, D, dA, r0, A, mc, ms) =>
    ∀ (r : zR) (H : Heap) (locs : List Loc) (ls : Array Slot) (st' : List Value), zsb r0 r → zS D dA r h H → zA A r → va_S A s.heap H locs → zE r c.maxLocals env ls → zvs r st st' →
      W p l e R s m args below meth c H locs k n (zM (p, l, e, R, s, m, args, below, meth, c, D, dA, r0, A, mc, ms) Q) (F0 m pc ls st')
/-- .. with the object named q thrown at pc -/
def zT (X : zX) (Q : zO → zH → Prop) (h : zH) (k n pc : Nat) (env : List (Nat × Value)) (q : Nat) : Prop := match X with
  | (p, l, e, R, s, m, args, below, meth, c, D, dA, r0, A, mc, ms) =>
    ∀ (r : zR) (H : Heap) (locs : List Loc) (ls : Array Slot) (st' : List Value) (E : String) (ce : Cell) (a : Nat), zsb r0 r → zS D dA r h H → zA A r → va_S A s.heap H locs → zE r c.maxLocals env ls → r q = some a → H[a]? = some ce → ce.vm = .none → s.vm.findClass E = some ce.cls →
      ∀ T : State, T.heap = H → Stand p l e R s m args below meth c T locs k n → ∃ t, Steps p.tables e below ((T.setTop (F0 m pc ls st')).pushFrame (.throwing a)) t ∧ zM (p, l, e, R, s, m, args, below, meth, c, D, dA, r0, A, mc, ms) Q t
/-- what holds all through a method's body -/
def zK (y : MethodName) (cc : ByteArray) (nL : Nat) (ret : Option FieldType) (hh : List (Nat × Nat × Nat × Nat)) (d : Nat) (kc ks : Nat) (X : zX) : Prop := match X with
  | (p, l, _, R, s, m, args, _, meth, c, D, dA, r0, A, mc, ms) =>
    p.tables.exec = Jvm.exec ∧ c.code = cc ∧ c.maxLocals = nL ∧ meth.sig.returnType = ret ∧ meth.locks = false ∧ meth.name = y.name ∧ s.vm.findClass y.cls = some m.cls ∧ (∀ w ∈ lw_all, w.before args s = true) ∧ zN s ∧ zNc s ∧ va_K D zcl (zty dA) s ∧ (∀ q, s.heap.size ≤ q → A q) ∧ l.flags = flags0 ∧ R = zRm d kc ks ∧ mc = kc ∧ ms = ks ∧ zG A r0 s ∧ c.exceptionTable.toList = tableOf hh
theorem zN.same {s U : State} (h : s.vm = U.vm) (q : zN s) : zN U := by
  intro w hw hk
  have q := q w hw hk
  cases w with
  | fieldLinkNest _ _ _ _ _ _ => exact va_Nw.same rfl h q
  | methodLinkNest _ _ _ _ => exact va_Nw.same rfl h q
  | castable _ _ => exact va_Nw.same rfl h q
  | privateMethod _ => exact va_Nw.same rfl h q
  | _ => cases hk
/-- a method without handlers, by its body -/
theorem zMet.of {y : MethodName} {cc : ByteArray} {nL : Nat} {ret : Option FieldType} {d mc ms : Nat} {as : List Value} {h : zH} {Q : zO → zH → Prop} (hy : plainFor y = true) (hsz : (lg_sl as).length ≤ nL)
    (body : ∀ X : zX, zK y cc nL ret [] d mc ms X → zW X Q h 0 0 0 (lv_args 0 as) []) : zMet y (ws_ y cc nL ret) d as h Q mc ms := by
  intro l D dA r0 A as' hfl has
  refine MetFree.of_bodySF (code := cc) (maxLocals := nL) (ret := ret) hy ?_ ?_
  · intro args s m hh hn
    obtain ⟨meth, c, h1, h2, h3, h4, h5, h6, -, -⟩ := Cond.code_spec hn (atoms_spec (ws := ws_ y cc nL ret) hh _ List.mem_cons_self)
    exact ⟨meth, c, h1, h2, h3, h4, h5, h6⟩
  · intro p e s m args below meth c s₁ B hml hP _
    obtain ⟨rfl, hS, hA, hA0, hK, hN, hNc, hG⟩ := hP
    have hh0 : s₁.heap = s.heap := by rw [B.state]; rfl
    have ht : c.exceptionTable.toList = tableOf [] := by
      obtain ⟨meth9, c9, h1, h2, -, -, -, -, h7, -⟩ := Cond.code_spec B.named (atoms_spec (ws := ws_ y cc nL ret) B.pre _ List.mem_cons_self)
      cases Option.some.inj (h1.symm.trans B.method)
      cases Option.some.inj (h2.symm.trans (Stand.of_body B).code)
      rw [Array.isEmpty_iff.mp h7]
      rfl
    have hts := atoms_spec (ws := ws_ y cc nL ret) B.pre
    have hts : ∀ w ∈ lw_all, w.before _ s = true := fun w h => hts w (List.mem_cons_of_mem _ h)
    have hb := body (p, l, e, zRm d mc ms, s, m, as'.toArray, below, meth, c, D, dA, r0, A, mc, ms) ⟨B.exec, B.bytes, hml, B.returns, B.notSynchronized, (name_of_methodNamed B.named B.method).1, findClass_of_methodNamed B.named, hts, hN, hNc, hK, hA0, hfl, rfl, rfl, rfl, hG, ht⟩
    have hsl : (lg_sl as').length = (lg_sl as).length := by
      have : ∀ {l m : List Value}, zvs r0 l m → (lg_sl m).length = (lg_sl l).length := by
        intro l
        induction l with
        | nil => intro m q; have q : m = [] := q; rw [q]
        | cons v l ih =>
          intro m q
          obtain ⟨w, m', e, a, b⟩ := q
          have e1 := ih b
          have e2 := a.cat
          subst e
          simp only [lg_sl, List.flatMap_cons, List.length_append] at e1 ⊢
          rw [e1]
          by_cases hc : v.category = 2
          · rw [if_pos hc, if_pos (by rw [e2]; exact hc)]; rfl
          · rw [if_neg hc, if_neg (by rw [e2]; exact hc)]; rfl
      exact this has
    have hl := lv_entry as' (n := nL) (by rw [hsl]; exact hsz)
    have hE : zE r0 c.maxLocals (lv_args 0 as) ((lg_sl as' ++ List.replicate (nL - (lg_sl as').length) Slot.unset).toArray) := by
      refine ⟨by rw [hml]; exact hl.1, hl.2.1, ?_⟩
      have : ∀ {l m : List Value} (i : Nat), zvs r0 l m → ∀ (j : Nat) (v : Value), zl (lv_args i l) j = some v → ∃ w, zv r0 v w ∧ (j, w) ∈ lv_args i m := by
        intro l
        induction l with
        | nil => intro m i q j v hj; cases hj
        | cons u l ih =>
          intro m i q j v hj
          obtain ⟨w, m', e, a, b⟩ := q
          subst e
          by_cases hij : i = j
          · subst hij
            have e9 : zl (lv_args i (u :: l)) i = some u := by simp [lv_args, zl]
            rw [e9] at hj
            cases hj
            exact ⟨w, a, List.mem_cons_self⟩
          · have hbq : Nat.beq i j = false := by
              cases hb : Nat.beq i j with
              | false => rfl
              | true => exact absurd (Nat.eq_of_beq_eq_true hb) hij
            have e9 : zl (lv_args i (u :: l)) j = zl (lv_args (if u.category = 2 then i + 2 else i + 1) l) j := by simp [lv_args, zl, hbq]
            rw [e9] at hj
            obtain ⟨x, h1, h2⟩ := ih _ b j v hj
            refine ⟨x, h1, ?_⟩
            show (j, x) ∈ (i, w) :: lv_args (if w.category = 2 then i + 2 else i + 1) m'
            rw [a.cat]
            exact List.mem_cons_of_mem _ h2
      intro i v hv
      obtain ⟨w, h1, h2⟩ := this 0 has i v hv
      exact ⟨w, h1, hl.2.2 (i, w) h2⟩
    have hW := hb r0 s.heap [] _ [] zsb.rf hS hA va_S.rf hE rfl
    rw [← lg_entry_eq] at hW
    obtain ⟨t, a1, o, b1, b2, b3⟩ := hW s₁ hh0 (Stand.of_body B)
    exact ⟨t, o, a1, b1, b2, b3⟩
