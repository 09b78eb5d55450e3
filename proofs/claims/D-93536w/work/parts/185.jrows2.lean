/-! ===== arrays of ints as functions of whole numbers; stores that name the new heap ===== -/
/-- an array of n ints -/
def aI (n : Nat) (f : Nat → Int) : zC := .inl (0, n, .inl fun i => if i < n then iI (f i) else 0)
/-- an array of n references, of which the first k are there -/
def aR (n k : Nat) (f : Nat → Nat) : zC := .inl (6, n, .inr (.inr (.inr (.inr fun i => if i < k then some (f i) else none))))
/-- a list: its changes, its array, its size -/
def oL (c : Int) (a : Nat) (n : Int) : zC := .inr (18, [.int (iI c), .ref a, .int (iI n)])
theorem aI_congr {n : Nat} {f g : Nat → Int} (h : ∀ i, i < n → f i = g i) : aI n f = aI n g := by
  unfold aI
  congr 4
  funext i
  by_cases hi : i < n
  · rw [if_pos hi, if_pos hi, h i hi]
  · rw [if_neg hi, if_neg hi]
theorem aR_congr {n k k' : Nat} {f g : Nat → Nat} (hk : k = k') (h : ∀ i, i < k → f i = g i) : aR n k f = aR n k' g := by
  subst hk
  unfold aR
  congr 7
  funext i
  by_cases hi : i < k
  · rw [if_pos hi, if_pos hi, h i hi]
  · rw [if_neg hi, if_neg hi]
theorem aI_zero {n : Nat} : (.inl (0, n, .inl fun _ => 0) : zC) = aI n (fun _ => 0) := by
  unfold aI
  congr 4
  funext i
  split <;> rfl
theorem aR_none {n : Nat} : (.inl (6, n, .inr (.inr (.inr (.inr fun _ => none)))) : zC) = aR n 0 (fun _ => 0) := by
  unfold aR
  congr 7
theorem zf_i {x : Int32} : ∀ (r : zR) (w : Value), zv r (.int x) w → narrow .int w = w ∧ fits .int w = true := fun _ _ h => zfit_i h
theorem zf_r {a : Nat} {C : String} : ∀ (r : zR) (w : Value), zv r (.ref a) w → narrow (.object C) w = w ∧ fits (.object C) w = true := fun r w h => by
  obtain ⟨b, -, rfl⟩ := h
  exact ⟨rfl, rfl⟩
theorem zf_a {a : Nat} {t : FieldType} : ∀ (r : zR) (w : Value), zv r (.ref a) w → narrow (.array t) w = w ∧ fits (.array t) w = true := fun r w h => by
  obtain ⟨b, -, rfl⟩ := h
  exact ⟨rfl, rfl⟩
theorem zf_n {C : String} : ∀ (r : zR) (w : Value), zv r .null w → narrow (.object C) w = w ∧ fits (.object C) w = true := fun r w h => by
  have h : w = .null := h
  subst h
  exact ⟨rfl, rfl⟩
theorem zf_na {t : FieldType} : ∀ (r : zR) (w : Value), zv r .null w → narrow (.array t) w = w ∧ fits (.array t) w = true := fun r w h => by
  have h : w = .null := h
  subst h
  exact ⟨rfl, rfl⟩
theorem zf_b {x : Int} (hx : x = 0 ∨ x = 1) : ∀ (r : zR) (w : Value), zv r (.int (iI x)) w → narrow .byte w = w ∧ fits .byte w = true := fun r w h => by
  have h : w = .int (iI x) := h
  subst h
  rcases hx with rfl | rfl <;> exact ⟨by decide +kernel, by decide +kernel⟩
section ZJ2
variable {y : MethodName} {cc : ByteArray} {nL : Nat} {ret : Option FieldType} {hh : List (Nat × Nat × Nat × Nat)} {d kc ks : Nat} {X : zX} {Q : zO → zH → Prop} {h h1 : zH} {k n pc : Nat} {env : List (Nat × Value)} {st : List Value}
theorem zW.heap (e : h = h1) (kk : zW X Q h1 k n pc env st) : zW X Q h k n pc env st := by rw [e]; exact kk
theorem z_putE (K : zK y cc nL ret hh d kc ks X) {idx ci j nm : Nat} {fs : List Value} {v : Value} (f : zfd y.cls idx ci j) (hm : zmay y ci j) (hn : h nm = some (.inr (ci, fs))) (h8 : 1000 ≤ nm) (hl : j < fs.length) (hfit : ∀ r w, zv r v w → narrow (zfty ci j) w = w ∧ fits (zfty ci j) w = true) (dd : decode cc pc = .ok (.putfield idx, 3))
    (he : zup h nm (.inr (ci, fs.set j v)) = h1) (kk : zW X Q h1 k n (pc + 3) env st) : zW X Q h k n pc env (v :: .ref nm :: st) := z_put K f hm hn h8 hl hfit dd (by rw [he]; exact kk)
theorem iI_in2 {a : Int} {N : Nat} (h0 : 0 ≤ a) (h1 : a < N) (h2 : a ≤ 2147483647) : vp_in (iI a) N := by
  rintro (h | h)
  · rw [← iI_0, iI_lt (by omega) (by omega)] at h
    omega
  · rw [iI_clamp h0 (by omega)] at h
    omega
theorem j_ild (K : zK y cc nL ret hh d kc ks X) {nm N : Nat} {f : Nat → Int} {a : Int} (hn : h nm = some (aI N f)) (h0 : 0 ≤ a) (h1 : a < (N : Int)) (dd : decode cc pc = .ok (.iaload, 1)) (kk : zW X Q h k n (pc + 1) env (.int (iI (f a.toNat)) :: st)) (h2 : a ≤ 2147483647 := by omega) : zW X Q h k n pc env (.int (iI a) :: .ref nm :: st) := by
  refine z_iald K hn (iI_in2 h0 h1 h2) dd ?_
  rw [iI_clamp h0 h2]
  have e : (if a.toNat < N then iI (f a.toNat) else 0) = iI (f a.toNat) := if_pos (by omega)
  rw [e]
  exact kk
theorem aI_upd {N i : Nat} {f : Nat → Int} {v : Int} (hi : i < N) : (.inl (0, N, .inl (upd (fun i => if i < N then iI (f i) else 0) i (iI v))) : zC) = aI N (sup f i v) := by
  unfold aI
  congr 4
  funext j
  by_cases hj : j = i
  · subst hj
    simp [upd, hi, sup_s]
  · simp [upd, hj, sup_n hj]
theorem j_istE (K : zK y cc nL ret hh d kc ks X) {nm N : Nat} {f : Nat → Int} {a v : Int} (hn : h nm = some (aI N f)) (h8 : 1000 ≤ nm) (h0 : 0 ≤ a) (h9 : a < (N : Int)) (dd : decode cc pc = .ok (.iastore, 1)) (he : zup h nm (aI N (sup f a.toNat v)) = h1) (kk : zW X Q h1 k n (pc + 1) env st) (h2 : a ≤ 2147483647 := by omega) : zW X Q h k n pc env (.int (iI v) :: .int (iI a) :: .ref nm :: st) := by
  refine z_iast K hn h8 (iI_in2 h0 h9 h2) dd ?_
  rw [iI_clamp h0 h2, aI_upd (by omega), he]
  exact kk
end ZJ2
