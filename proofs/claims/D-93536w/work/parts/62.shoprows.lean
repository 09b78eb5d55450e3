/-! ===== the shop: rows of its arrays, what its lists answer ===== -/
section ZSH
variable {y : MethodName} {cc : ByteArray} {nL : Nat} {ret : Option FieldType} {hh : List (Nat × Nat × Nat × Nat)} {d kc ks : Nat} {X : zX} {Q : zO → zH → Prop} {b : Nat} {u : tW} {g : zH} {k n pc : Nat} {env : List (Nat × Value)} {st : List Value}
theorem s_ldrow (K : zK y cc nL ret hh d kc ks X) {m p : Int} (hm : 0 ≤ m ∧ m ≤ 3) (h0 : 0 ≤ p) (h1 : p < 5) (dd : decode cc pc = .ok (.iaload, 1)) (kk : zW X Q (sH b u g) k n (pc + 1) env (.int (iI (u 0 (183 + 5 * m + p).toNat)) :: st)) : zW X Q (sH b u g) k n pc env (.int (iI p) :: .ref (b + 24 + m.toNat) :: st) :=
  j_ild K (sH_orA hm) h0 h1 dd (by show zW X Q (sH b u g) k n (pc + 1) env (.int (iI (u 0 (183 + 5 * m.toNat + p.toNat))) :: st); rw [show 183 + 5 * m.toNat + p.toNat = (183 + 5 * m + p).toNat by omega]; exact kk) (by omega)
theorem s_strow (K : zK y cc nL ret hh d kc ks X) {m p v : Int} (hm : 0 ≤ m ∧ m ≤ 3) (h8 : 1000 ≤ b) (h0 : 0 ≤ p) (h1 : p < 5) (dd : decode cc pc = .ok (.iastore, 1)) (hJ : WfJ (u 0)) (kk : zW X Q (sH b (tset u 0 (183 + 5 * m + p).toNat v) g) k n (pc + 1) env st) : zW X Q (sH b u g) k n pc env (.int (iI v) :: .int (iI p) :: .ref (b + 24 + m.toNat) :: st) :=
  j_istE K (sH_orA hm) (by omega) h0 h1 dd (sH_row hJ hm ⟨h0, h1⟩) kk (by omega)
theorem s_ldset (K : zK y cc nL ret hh d kc ks X) {c : Int} (h9 : True) (h0 : 0 ≤ c) (h1 : c < 9) (dd : decode cc pc = .ok (.iaload, 1)) (kk : zW X Q (sH b u g) k n (pc + 1) env (.int (iI (u 0 (142 + c).toNat)) :: st)) : zW X Q (sH b u g) k n pc env (.int (iI c) :: .ref (b + 7) :: st) :=
  j_ild K sH_sets h0 h1 dd (by show zW X Q (sH b u g) k n (pc + 1) env (.int (iI (u 0 (142 + c.toNat))) :: st); rw [show 142 + c.toNat = (142 + c).toNat by omega]; exact kk) (by omega)
theorem s_stset (K : zK y cc nL ret hh d kc ks X) {c v : Int} (h9 : True) (h8 : 1000 ≤ b) (h0 : 0 ≤ c) (h1 : c < 9) (dd : decode cc pc = .ok (.iastore, 1)) (hJ : WfJ (u 0)) (kk : zW X Q (sH b (tset u 0 (142 + c).toNat v) g) k n (pc + 1) env st) : zW X Q (sH b u g) k n pc env (.int (iI v) :: .int (iI c) :: .ref (b + 7) :: st) :=
  j_istE K sH_sets (by omega) h0 h1 dd (sH_set hJ ⟨h0, h1⟩) kk (by omega)
theorem s_ldval (K : zK y cc nL ret hh d kc ks X) {j q : Int} (hj : (0 ≤ j ∧ j < u 0 0) ∧ u 0 0 ≤ 5) (h0 : 0 ≤ q) (h1 : q < 3) (dd : decode cc pc = .ok (.iaload, 1)) (kk : zW X Q (sH b u g) k n (pc + 1) env (.int (iI (u 0 (2 + 5 * q + j).toNat)) :: st)) : zW X Q (sH b u g) k n pc env (.int (iI q) :: .ref (b + 37 + j.toNat) :: st) :=
  j_ild K (sH_jbV hj.1 hj.2) h0 h1 dd (by show zW X Q (sH b u g) k n (pc + 1) env (.int (iI (u 0 (2 + 5 * q.toNat + j.toNat))) :: st); rw [show 2 + 5 * q.toNat + j.toNat = (2 + 5 * q + j).toNat by omega]; exact kk) (by omega)
theorem s_stval (K : zK y cc nL ret hh d kc ks X) {j q v : Int} (hj : (0 ≤ j ∧ j < u 0 0) ∧ u 0 0 ≤ 5) (h8 : 1000 ≤ b) (h0 : 0 ≤ q) (h1 : q < 3) (dd : decode cc pc = .ok (.iastore, 1)) (hJ : WfJ (u 0)) (kk : zW X Q (sH b (tset u 0 (2 + 5 * q + j).toNat v) g) k n (pc + 1) env st) : zW X Q (sH b u g) k n pc env (.int (iI v) :: .int (iI q) :: .ref (b + 37 + j.toNat) :: st) :=
  j_istE K (sH_jbV hj.1 hj.2) (by omega) h0 h1 dd (sH_val hJ hj.1 ⟨h0, h1⟩) kk (by omega)
end ZSH
theorem sH_t1 {b : Nat} {u : tW} {g : zH} {k : Nat} {v : Int} : zup (sH b u g) (b + 28) (aI 20 (sup (u 1) k v)) = sH b (tset u 1 k v) g := sH_tim (f := 0) (by omega)
theorem sH_t2 {b : Nat} {u : tW} {g : zH} {k : Nat} {v : Int} : zup (sH b u g) (b + 29) (aI 20 (sup (u 2) k v)) = sH b (tset u 2 k v) g := sH_tim (f := 1) (by omega)
theorem sH_t3 {b : Nat} {u : tW} {g : zH} {k : Nat} {v : Int} : zup (sH b u g) (b + 30) (aI 20 (sup (u 3) k v)) = sH b (tset u 3 k v) g := sH_tim (f := 2) (by omega)
theorem sH_t4 {b : Nat} {u : tW} {g : zH} {k : Nat} {v : Int} : zup (sH b u g) (b + 31) (aI 20 (sup (u 4) k v)) = sH b (tset u 4 k v) g := sH_tim (f := 3) (by omega)
theorem sH_n0 {b : Nat} {u : tW} {g : zH} {v : Int} : zup (sH b u g) b (.inr (2, (sF b u).set 9 (.int (iI v)))) = sH b (tset u 5 0 v) g := sH_num (i := 0) (by omega)
theorem sH_n1 {b : Nat} {u : tW} {g : zH} {v : Int} : zup (sH b u g) b (.inr (2, (sF b u).set 10 (.int (iI v)))) = sH b (tset u 5 1 v) g := sH_num (i := 1) (by omega)
theorem sH_n2 {b : Nat} {u : tW} {g : zH} {v : Int} : zup (sH b u g) b (.inr (2, (sF b u).set 11 (.int (iI v)))) = sH b (tset u 5 2 v) g := sH_num (i := 2) (by omega)
theorem sH_n3 {b : Nat} {u : tW} {g : zH} {v : Int} : zup (sH b u g) b (.inr (2, (sF b u).set 12 (.int (iI v)))) = sH b (tset u 5 3 v) g := sH_num (i := 3) (by omega)
/-! the lists -/
abbrev zG2 (L : Nat) (i : Int) (h : zH) (v : Nat) : Prop := zMet yJ2_get (ws_ yJ2_get cJ2_get 2 (some (.object "java/lang/Object"))) 3 [.ref L, .int (iI i)] h (zRet (.ref v) h) 0 0
theorem gt_jobs {b : Nat} {u : tW} {g : zH} {j : Int} (hj : 0 ≤ j ∧ j < u 0 0) (h5 : u 0 0 ≤ 5) : zG2 (b + 1) j (sH b u g) (b + 32 + j.toNat) := by
  have hL := sH_jobs (b := b) (u := u) (g := g)
  rw [if_neg (by omega)] at hL
  have hA := sH_in (b := b) (u := u) (g := g) 2 (by omega)
  rw [sC_2, if_neg (by omega)] at hA
  exact jl_get hL hA (by omega) (by omega) hj.1 hj.2 (by omega)
theorem gt_ops {b : Nat} {u : tW} {g : zH} {k : Int} (hk : 0 ≤ k ∧ k < u 0 1) (h20 : u 0 1 ≤ 20) : zG2 (b + 3) k (sH b u g) (b + 52 + k.toNat) := by
  have hL := sH_ops (b := b) (u := u) (g := g)
  rw [if_neg (by omega)] at hL
  by_cases h1 : u 0 1 ≤ 10
  · rw [if_pos h1] at hL
    have hA := sH_in (b := b) (u := u) (g := g) 4 (by omega)
    rw [sC_4, if_neg (by omega)] at hA
    exact jl_get hL hA (by omega) (by omega) hk.1 hk.2 (by omega)
  · rw [if_neg h1] at hL
    by_cases h2 : u 0 1 ≤ 15
    · rw [if_pos h2] at hL
      have hA := sH_in (b := b) (u := u) (g := g) 5 (by omega)
      rw [sC_5, if_neg (by omega)] at hA
      exact jl_get hL hA (by omega) (by omega) hk.1 hk.2 (by omega)
    · rw [if_neg h2] at hL
      have hA := sH_in (b := b) (u := u) (g := g) 6 (by omega)
      rw [sC_6, if_neg (by omega)] at hA
      exact jl_get hL hA (by omega) (by omega) hk.1 hk.2 (by omega)
theorem gt_ord {b : Nat} {u : tW} {g : zH} {m : Int} (hm : 0 ≤ m ∧ m ≤ 3) : zG2 (b + 18) m (sH b u g) (b + 20 + m.toNat) :=
  jl_get sH_ords (sH_in 19 (by omega)) (by omega) (by omega) hm.1 (by omega) rfl
theorem gt_brks {b : Nat} {u : tW} {g : zH} {m : Int} (hm : 0 ≤ m ∧ m ≤ 3) : zG2 (b + 8) m (sH b u g) (b + 10 + m.toNat) :=
  jl_get sH_brks (sH_in 9 (by omega)) (by omega) (by omega) hm.1 (by omega) rfl
theorem gt_brk {b : Nat} {u : tW} {g : zH} {m i : Int} (hm : 0 ≤ m ∧ m ≤ 3) (h7 : u 7 m.toNat ≠ 0) (hi : 0 ≤ i ∧ i < u 0 (151 + m).toNat) (h10 : u 0 (151 + m).toNat ≤ 10) : zG2 (b + 10 + m.toNat) i (sH b u g) (u 8 (3 * m.toNat + i.toNat)).toNat := by
  have hL := sH_brk (b := b) (u := u) (g := g) hm
  rw [if_neg h7] at hL
  exact jl_get hL (sH_brA hm h7) (by omega) (by omega) hi.1 hi.2 (by omega)
theorem gt_jop {b : Nat} {u : tW} {g : zH} {j i : Int} (hj : 0 ≤ j ∧ j < u 0 0) (h5 : u 0 0 ≤ 5) (hi : 0 ≤ i ∧ i < u 0 (17 + j).toNat) (h4 : u 0 (17 + j).toNat ≤ 4) : zG2 (b + 42 + j.toNat) i (sH b u g) (b + 52 + (u 0 (22 + 4 * j + i).toNat).toNat) := by
  have hL := sH_jbL (b := b) (u := u) (g := g) hj h5
  rw [if_neg (by omega)] at hL
  have h9 := jl_get hL (sH_jbA hj h5 (by omega)) (by omega) (by omega) hi.1 hi.2 (by omega)
  rw [show 22 + 4 * j.toNat + i.toNat = (22 + 4 * j + i).toNat by omega] at h9
  exact h9
/-- the breakdowns' objects lie in the rest -/
def BkOk (b : Nat) (u : tW) (g : zH) : Prop := ∀ m i : Int, 0 ≤ m → m ≤ 3 → 0 ≤ i → i < u 0 (151 + m).toNat → u 7 m.toNat ≠ 0 ∧ ((u 8 (3 * m.toNat + i.toNat)).toNat < b ∨ b + 72 ≤ (u 8 (3 * m.toNat + i.toNat)).toNat) ∧ 1000 ≤ (u 8 (3 * m.toNat + i.toNat)).toNat ∧ g (u 8 (3 * m.toNat + i.toNat)).toNat = some (.inr (6, [.int (iI (u 0 (155 + 3 * m + i).toNat)), .int (iI (u 0 (167 + 3 * m + i).toNat))]))
theorem BkOk.at {b : Nat} {u : tW} {g : zH} (h : BkOk b u g) {m i : Int} (hm : 0 ≤ m ∧ m ≤ 3) (hi : 0 ≤ i ∧ i < u 0 (151 + m).toNat) : sH b u g (u 8 (3 * m.toNat + i.toNat)).toNat = some (.inr (6, [.int (iI (u 0 (155 + 3 * m + i).toNat)), .int (iI (u 0 (167 + 3 * m + i).toNat))])) := by
  obtain ⟨-, h1, -, h2⟩ := h m i hm.1 hm.2 hi.1 hi.2
  rw [sH_out h1]
  exact h2
