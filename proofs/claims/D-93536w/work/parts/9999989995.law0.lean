/-! ===== the law: what holds between its calls ===== -/
/-- the fields of the reference that matter between calls -/
def jf (f : Nat) : Prop := f = 2 ∨ f = 4 ∨ f = 5 ∨ f = 7 ∨ f = 9 ∨ f = 13 ∨ f = 14 ∨ f = 15 ∨ f = 22 ∨ f = 34
def RJ (w : tW) : Prop := (∀ m : Nat, m < 4 → w 13 m = 0) ∧ w 14 0 = -1 ∧ (0 ≤ w 15 0 ∧ w 15 0 ≤ 3000) ∧ (∀ i : Nat, i < 20 → w 22 i = 0) ∧ (0 ≤ w 5 0 ∧ w 5 0 ≤ 80) ∧ (∀ i : Nat, i < 80 → 0 ≤ w 4 i ∧ w 4 i ≤ 65535) ∧ (-1 ≤ w 34 0 ∧ w 34 0 ≤ 1000) ∧ (0 ≤ w 7 0 ∧ w 7 0 ≤ 4) ∧ (w 9 0 = 0 ∨ w 9 0 = 1) ∧ (w 2 0 = 0 ∨ w 2 0 = 1)
section LW0
variable {w w' w0 : tW} {h h' h1 : zH} {R : Int → tW → Prop} {P : Int → tW → Prop} {t v0 v : Int}
theorem RJ.fr (k : RJ w) (e : ∀ f, jf f → w' f = w f) : RJ w' := by
  unfold RJ
  rw [e 13 (by unfold jf; omega), e 14 (by unfold jf; omega), e 15 (by unfold jf; omega), e 22 (by unfold jf; omega), e 5 (by unfold jf; omega), e 4 (by unfold jf; omega), e 34 (by unfold jf; omega), e 7 (by unfold jf; omega), e 9 (by unfold jf; omega), e 2 (by unfold jf; omega)]
  exact k
theorem jf.n {f : Nat} (k : jf f) : f ≠ 0 ∧ f ≠ 1 ∧ f ≠ 3 ∧ f ≠ 6 ∧ f ≠ 8 ∧ f ≠ 10 ∧ f ≠ 11 ∧ f ≠ 12 := by unfold jf at k; omega
theorem RJ.s3 (k : RJ w) {c : Int} : RJ (tset w 3 0 c) := k.fr fun f hf => tsG hf.n.2.2.1
theorem RJ.F {S : List Nat} (k : RJ w) (e : Fr S w w') (hS : ∀ f, jf f → f ∉ S) : RJ w' := k.fr fun f hf => e f (hS f hf)
theorem RJ.wt {rd st : Nat → Int} (k : RJ w) : RJ (wt (tset w 3 0 0) rd st) := k.fr fun f hf => (wt_o hf.n.2.2.2.2.2.2.1 hf.n.2.2.2.2.2.2.2).trans (tsG hf.n.2.2.1)
theorem RJ.pub (k : RJ w) (e : ∀ f, f ≠ 0 → w0 f = tset w 3 0 0 f) (hp : pub w t v0 w0 w' v) : RJ w' := by
  by_cases z : t = 0
  · rw [(hp.1 z).2]
    exact k.s3.fr fun f hf => e f hf.n.1
  · rw [hp.2 z]; exact k.s3
theorem RJ.pubQ (k : RJ w) (e : ∀ v w', P v w' → RJ w') (hp : pubQ w t P v w') : RJ w' := by
  by_cases z : t = 0
  · exact e v w' (hp.1 z)
  · rw [hp.2 z]; exact k.s3
theorem RJ.TI (k : RJ w) (hs : SIr (w 0)) : TI w := ⟨hs.1, hs.2.1, k.1, k.2.1, k.2.2.1, k.2.2.2.1⟩
theorem RJ.hac (k : RJ w) (hs : SIr (w 0)) : ∀ rd st, fT w 500 rd st → cntU st (w 0 1).toNat = 0 := fun rd st hf => hs.2.2.1.u0 hs.1 hs.2.1 (hf.o (k.TI hs)).2
theorem RJ.ac (k : RJ w) (hs : SIr (w 0)) : ACy (w 0) (w 13) := by
  obtain ⟨r, hr⟩ := hs.2.2.1
  refine ⟨r, fun q q0 q1 => ?_⟩
  obtain ⟨b1, b2, b3⟩ := hr q q0 q1
  refine ⟨b1, b2, ?_⟩
  have hm := (hs.1.2.1.2 q q0 q1).2.1
  have e : sAh (w 0) (w 13) q = sAh (w 0) (oB 0) q := by
    unfold sAh
    rw [k.1 _ (by omega), show oB 0 (sMc (w 0) q).toNat = 0 by unfold oB; simp]
  rw [e]
  exact b3
theorem CX.S (hc : CX h w) : SIr (w 0) := by
  obtain ⟨b, N, u, g, -, hC⟩ := hc
  rw [← hC.row]
  exact hC.2.2.2.2.2.1
/-- names from 1000 to 1039 hold no breakdown -/
def n6 (h : zH) : Prop := ∀ m fs, 1000 ≤ m → m < 1040 → h m ≠ some (.inr (6, fs))
/-- the component does not look at the names from 1000 to 1039 -/
theorem CX.lo (hc : CX h w) (hn : n6 h) (e : ∀ m, m < 1000 ∨ 1040 ≤ m → h' m = h m) : CX h' w := by
  obtain ⟨b, N, u, g, rfl, hC⟩ := hc
  have n8 := hC.n8
  obtain ⟨a1, a2, a3, a4, a5, a6, a7, a8, a9, a10, a11⟩ := id hC
  obtain ⟨g', hg⟩ : ∃ g' : zH, g' = fun m => if 1000 ≤ m ∧ m < 1040 then h' m else g m := ⟨_, rfl⟩
  have gi : ∀ m, 1000 ≤ m → m < 1040 → g' m = h' m := fun m q1 q2 => by rw [hg]; exact if_pos ⟨q1, q2⟩
  have go : ∀ m, m < 1000 ∨ 1040 ≤ m → g' m = g m := fun m q => by rw [hg]; exact if_neg (by omega)
  have eh : h' = sH b u g' := by
    funext m
    by_cases q : m < 1000 ∨ 1040 ≤ m
    · rw [e m q]
      by_cases z : m < b ∨ b + 72 ≤ m
      · rw [sH_out z, sH_out z, go m q]
      · obtain ⟨i, rfl⟩ : ∃ i, m = b + i := ⟨m - b, by omega⟩
        rw [sH_in i (by omega), sH_in i (by omega)]
    · rw [sH_out (by omega), gi m (by omega) (by omega)]
  refine ⟨b, N, u, g', eh, a1, a2, a3.ext (N := 1000) (fun m q => go m (Or.inl q)) (by omega), fun m q => by rw [go m (by omega)]; exact a4 m q, a5, a6, fun m i m0 m1 i0 i1 => ?_, a8, a9, a10, a11.mv a4 (fun m _ q => go m (by have := q.1; omega)) (go 1040 (by omega)) (Nat.le_refl _) (fun _ _ _ _ => rfl)⟩
  obtain ⟨c1, c2, c3, c4⟩ := a7 m i m0 m1 i0 i1
  refine ⟨c1, c2, c3, ?_⟩
  rw [go _ ?_]
  · exact c4
  · by_cases q : (u 8 (3 * m.toNat + i.toNat)).toNat < 1040
    · exact absurd ((sH_out c2).trans c4) (hn _ _ c3 q)
    · omega
theorem CX.x (hc : CX h w) : ∃ fs, h 1040 = some (.inr (1, fs)) := by
  obtain ⟨b, N, u, g, rfl, hC⟩ := hc
  obtain ⟨sv, T, fl, cl, hx⟩ := hC.x
  exact ⟨_, hx⟩
/-- the reference's own cells, the two cells for answers -/
def LH (h : zH) (w : tW) : Prop := (∀ m, 1000 ≤ m → m < 1038 → h m = tH w m) ∧ (∃ f, h 1038 = some (.inl (4, 1, .inr (.inl f)))) ∧ ∃ f, h 1039 = some (.inl (5, 1, .inr (.inr (.inr (.inl f)))))
theorem tH_6 {m : Nat} {fs : List Value} : tH w m ≠ some (.inr (6, fs)) := by
  unfold tH
  split
  · intro e; cases e
  · split
    · intro e; cases e
    · intro e; cases e
theorem LH.n6 (k : LH h w) : n6 h := fun m fs m1 m2 e => by
  by_cases q : m < 1038
  · rw [k.1 m m1 q] at e; exact tH_6 e
  · obtain ⟨f, hf⟩ := k.2.1
    obtain ⟨f2, hf2⟩ := k.2.2
    rcases (by omega : m = 1038 ∨ m = 1039) with rfl | rfl
    · rw [hf] at e; cases e
    · rw [hf2] at e; cases e
theorem LH.oe (k : LH h w) : ov w h = h := by
  funext m
  by_cases q : 1000 ≤ m ∧ m < 1038
  · rw [ov_in q.1 q.2, k.1 m q.1 q.2]
  · exact ov_out (by omega)
theorem LH.lo (k : LH h w) (e : ∀ m, m < 1040 → h' m = h m) : LH h' w := ⟨fun m m1 m2 => (e m (by omega)).trans (k.1 m m1 m2), by rw [e 1038 (by omega)]; exact k.2.1, by rw [e 1039 (by omega)]; exact k.2.2⟩
theorem LH.ref (k : LH h w) : LH (ov w' h) w' := ⟨fun m m1 m2 => ov_in m1 m2, by rw [ov_out (by omega)]; exact k.2.1, by rw [ov_out (by omega)]; exact k.2.2⟩
/-- what holds between two calls of the law -/
def LI (_ : Nat) (_ : Nat → Int) (h : zH) (w : tW) : Prop := CX h w ∧ RJ w ∧ LH h w
/-- what the law's own method for an operation ends with -/
def wQ (h : zH) (R : Int → tW → Prop) : zO → zH → Prop := fun z h' => ∃ (kk : Int) (f : Nat → Int64), z = .inl (some (.int (iI kk))) ∧ (0 ≤ kk ∧ kk ≤ 3) ∧ (∀ m, m < 1040 → m ≠ 1038 → h' m = h m) ∧ h' 1038 = some (.inl (4, 1, .inr (.inl f))) ∧ ∀ v w', R v w' → w' 3 0 = kk ∧ CX h' w' ∧ (kk = 0 → f 0 = (iI v).toInt64)
theorem wq_ok {f : Nat → Int64} {v : Int} (h6 : n6 h) (lo : ∀ m, m < 1040 → h1 m = h m) (hr : ∀ v' w', R v' w' → w' 3 0 = 0 ∧ v' = v ∧ CX h1 w') (hf : f 0 = (iI v).toInt64) : wQ h R (.inl (some (.int (iI 0)))) (zup h1 1038 (.inl (4, 1, .inr (.inl f)))) := by
  refine ⟨0, f, rfl, by omega, fun m m1 m2 => (zup_ne m2).trans (lo m m1), zup_at _ _ _, fun v' w' r => ?_⟩
  obtain ⟨r1, r2, r3⟩ := hr v' w' r
  exact ⟨r1, r3.lo (fun m fs m1 m2 => by rw [lo m m2]; exact h6 m fs m1 m2) (fun m q => zup_ne (by omega)), fun _ => by rw [r2]; exact hf⟩
theorem wq_ex {k : Int} (ho : ∃ f, h 1038 = some (.inl (4, 1, .inr (.inl f)))) (hk : 1 ≤ k ∧ k ≤ 3) (lo : ∀ m, m < 1040 → h1 m = h m) (hr : ∀ v' w', R v' w' → w' 3 0 = k ∧ CX h1 w') : wQ h R (.inl (some (.int (iI k)))) h1 := by
  obtain ⟨f, hf⟩ := ho
  exact ⟨k, f, rfl, by omega, fun m m1 _ => lo m m1, (lo 1038 (by omega)).trans hf, fun v' w' r => ⟨(hr v' w' r).1, (hr v' w' r).2, fun z => by omega⟩⟩
def wQv (h : zH) (R : tW → Prop) : zO → zH → Prop := fun z h' => ∃ kk : Int, z = .inl (some (.int (iI kk))) ∧ (0 ≤ kk ∧ kk ≤ 3) ∧ (∀ m, m < 1040 → h' m = h m) ∧ ∀ w', R w' → w' 3 0 = kk ∧ CX h' w'
def wQd (h : zH) (R : UInt64 → tW → Prop) : zO → zH → Prop := fun z h' => ∃ (kk : Int) (f : Nat → UInt64), z = .inl (some (.int (iI kk))) ∧ (0 ≤ kk ∧ kk ≤ 3) ∧ (∀ m, m < 1040 → m ≠ 1039 → h' m = h m) ∧ h' 1039 = some (.inl (5, 1, .inr (.inr (.inr (.inl f))))) ∧ ∀ v w', R v w' → w' 3 0 = kk ∧ CX h' w' ∧ (kk = 0 → f 0 = v)
theorem wqd_ok {R : UInt64 → tW → Prop} {f : Nat → UInt64} {v : UInt64} (h6 : n6 h) (lo : ∀ m, m < 1040 → h1 m = h m) (hr : ∀ v' w', R v' w' → w' 3 0 = 0 ∧ v' = v ∧ CX h1 w') (hf : f 0 = v) : wQd h R (.inl (some (.int (iI 0)))) (zup h1 1039 (.inl (5, 1, .inr (.inr (.inr (.inl f)))))) := by
  refine ⟨0, f, rfl, by omega, fun m m1 m2 => (zup_ne m2).trans (lo m m1), zup_at _ _ _, fun v' w' r => ?_⟩
  obtain ⟨r1, r2, r3⟩ := hr v' w' r
  exact ⟨r1, r3.lo (fun m fs m1 m2 => by rw [lo m m2]; exact h6 m fs m1 m2) (fun m q => zup_ne (by omega)), fun _ => by rw [r2]; exact hf⟩
theorem wqd_ex {R : UInt64 → tW → Prop} {k : Int} (ho : ∃ f, h 1039 = some (.inl (5, 1, .inr (.inr (.inr (.inl f)))))) (hk : 1 ≤ k ∧ k ≤ 3) (lo : ∀ m, m < 1040 → h1 m = h m) (hr : ∀ v' w', R v' w' → w' 3 0 = k ∧ CX h1 w') : wQd h R (.inl (some (.int (iI k)))) h1 := by
  obtain ⟨f, hf⟩ := ho
  exact ⟨k, f, rfl, by omega, fun m m1 _ => lo m m1, (lo 1039 (by omega)).trans hf, fun v' w' r => ⟨(hr v' w' r).1, (hr v' w' r).2, fun z => by omega⟩⟩
/-- the reference's answer, beside all else -/
def rfQ (h : zH) (R : Int → tW → Prop) : zO → zH → Prop := fun z h' => ∃ v w', z = .inl (some (.int (iI v))) ∧ h' = ov w' h ∧ R v w' ∧ RJ w'
theorem tMi.rf {y : MethodName} {cc : ByteArray} {nL : Nat} {rt : FieldType} {d : Nat} {as : List Value} (hM : tMi y cc nL rt d as w P) (has0 : znr as = true) (h : zH) (hP : ∀ v w', P v w' → R v w' ∧ RJ w') : zMet y (ws_ y cc nL (some rt)) d (.ref 1000 :: as) (ov w h) (rfQ h R) 0 0 :=
  (hM.bs has0 h).weaken fun z h' ⟨v, w', e1, e2, hp⟩ => ⟨v, w', e1, e2, hP v w' hp⟩
end LW0
section LW1
variable {y : MethodName} {cc : ByteArray} {nL : Nat} {ret : Option FieldType} {hh : List (Nat × Nat × Nat × Nat)} {d kc ks : Nat} {X : zX} {Q : zO → zH → Prop} {h : zH} {k n pc : Nat} {env : List (Nat × Value)} {st : List Value}
/-- no object is of a class that is not there -/
theorem z_noT {q ci : Nat} {fs : List Value} (hq : h q = some (.inr (ci, fs))) (h9 : ci < 1000) (hz : zcl[ci]? = none) : zT X Q h k n pc env q := by
  obtain ⟨p, l, e, R, s, m, args, below, meth, c, D, dA, r0, A, mc, ms⟩ := X
  intro r H locs ls st' E ce a g0 g1 g2 g3 g4 g5
  exfalso
  have n21 : ci ≠ 21 := fun e => by rw [e] at hz; cases hz
  rcases g1.at hq g5 (Or.inl (show (ci == 21) = false from beq_false_of_ne n21)) with z | ⟨fs', -, ⟨r9, z, -⟩, -⟩
  · omega
  · rw [hz] at z; cases z
theorem cdA_c {a b c ci : Nat} (hz : cdA a b c ci ≠ 0) : (ci = a ∧ cdA a b c ci = 1) ∨ (ci = b ∧ cdA a b c ci = 2) ∨ (ci = c ∧ cdA a b c ci = 3) := by
  unfold cdA at hz ⊢
  by_cases h1 : ci = a
  · rw [if_pos h1]; exact Or.inl ⟨h1, rfl⟩
  · by_cases h2 : ci = b
    · rw [if_neg h1, if_pos h2]; exact Or.inr (Or.inl ⟨h2, rfl⟩)
    · by_cases h3 : ci = c
      · rw [if_neg h1, if_neg h2, if_pos h3]; exact Or.inr (Or.inr ⟨h3, rfl⟩)
      · rw [if_neg h1, if_neg h2, if_neg h3] at hz; exact absurd rfl hz
theorem vp0 : vp_in (iI 0) 1 := by unfold vp_in; decide +kernel
/-- the script, the cell named 8: others made it -/
def zScr (X : zX) (L : Nat) (xs : Nat → Int) : Prop := match X with
  | (_, _, _, _, s, _, _, _, _, _, _, _, r0, A, _, _) => ∃ b, r0 8 = some b ∧ b < s.heap.size ∧ ¬ A b ∧ va_X b L (fun j => iI (xs j)) s s.heap
theorem s_ld (K : zK y cc nL ret hh d kc ks X) {L : Nat} {xs : Nat → Int} {a : Int} (hz : zScr X L xs) (h0 : 0 ≤ a) (h1 : a < (L : Int)) (dd : decode cc pc = .ok (.iaload, 1)) (kk : zW X Q h k n (pc + 1) env (.int (iI (xs a.toNat)) :: st)) (h2 : a ≤ 2147483647 := by omega) : zW X Q h k n pc env (.int (iI a) :: .ref 8 :: st) := by
  obtain ⟨p, l, e, R, s, m, args, below, meth, c, D, dA, r0, A, mc, ms⟩ := X
  obtain ⟨hx, hb, hml, hrt, hlk, hnm, hown, hts, hN, hNc, hK, hA0, hfl, hR, hmc, hms, hG, hT⟩ := K
  intro r H locs ls st' g0 g1 g2 g3 g4 g5
  obtain ⟨_, rfl, g6⟩ := zvs_i g5
  obtain ⟨b, _, gr, rfl, g7⟩ := zvs_r g6
  obtain ⟨b', z1, z2, z3, z4⟩ := hz
  have e1 := (g0 8 b).2 (by omega) gr
  cases Option.some.inj (e1.symm.trans z1)
  refine va_sld hx hb z4 z2 z3 g3 (iI_in2 h0 h1 h2) dd ?_
  rw [iI_clamp h0 h2]
  exact kk r H locs ls _ g0 g1 g2 g3 g4 g7.i
theorem s_len (K : zK y cc nL ret hh d kc ks X) {L : Nat} {xs : Nat → Int} (hz : zScr X L xs) (dd : decode cc pc = .ok (.arraylength, 1)) (kk : zW X Q h k n (pc + 1) env (.int (iI L) :: st)) : zW X Q h k n pc env (.ref 8 :: st) := by
  obtain ⟨p, l, e, R, s, m, args, below, meth, c, D, dA, r0, A, mc, ms⟩ := X
  obtain ⟨hx, hb, hml, hrt, hlk, hnm, hown, hts, hN, hNc, hK, hA0, hfl, hR, hmc, hms, hG, hT⟩ := K
  intro r H locs ls st' g0 g1 g2 g3 g4 g5
  obtain ⟨b, _, gr, rfl, g7⟩ := zvs_r g5
  obtain ⟨b', z1, z2, z3, z4⟩ := hz
  have e1 := (g0 8 b).2 (by omega) gr
  cases Option.some.inj (e1.symm.trans z1)
  refine va_slen hx hb z4 z2 z3 g3 dd ?_
  rw [← iI_nat]
  exact kk r H locs ls _ g0 g1 g2 g3 g4 g7.i
end LW1
/-! ===== the component is made ===== -/
section XPA
variable {g0 : zH}
def gNew (g0 : zH) : zH := zup (zup (zup g0 1173 (aB 16 fun _ => 0)) 1172 (oSB 1173 0 0)) 1040 (oX 1100 .null 1172 .null .null 0)
theorem x1_init (hA : Am g0) (hT : zTop g0 1000) : zMet yX1_init (ws_ yX1_init cX1_init 1 none) 9 [.ref 1040] (zup g0 1040 (.inr (1, [.null, .null, .null, .null, .null, .int 0]))) (zVd (sH 1100 uNew (gNew g0))) 32 360 := by
  have k1 := x2_init (b := 1100) (g := zup g0 1040 (.inr (1, [.null, .null, .null, .null, .null, .int 0]))) (by omega) (hA.up (by omega)) (fun i hi => (zup_ne (by omega)).trans (hT _ (by omega)))
  have l0 : ∀ c c', zup (zup g0 1040 c) 1100 c' 1040 = some c := fun c c' => (zup_ne (by omega)).trans (zup_at _ _ _)
  have f1 : ∀ c, zup g0 1040 c 1100 = none := fun c => (zup_ne (by omega)).trans (hT _ (by omega))
  have l1 : ∀ c, sH 1100 uNew (zup g0 1040 c) 1040 = some c := fun c => (sH_out (by omega)).trans (zup_at _ _ _)
  have s1 : ∀ c c', zup (sH 1100 uNew (zup g0 1040 c)) 1040 c' = sH 1100 uNew (zup g0 1040 c') := fun c c' => by rw [sH_upo (by omega), zup_zup]
  have f2 : ∀ c, sH 1100 uNew (zup g0 1040 c) 1172 = none := fun c => (sH_out (by omega)).trans ((zup_ne (by omega)).trans (hT _ (by omega)))
  have k2 := sb_init (h := zup (sH 1100 uNew (zup g0 1040 (.inr (1, [.ref 1100, .null, .null, .null, .null, .int 0])))) 1172 (.inr (19, [.null, .int 0, .int 0, .int 0]))) (T := 1172) (a := 1173) (zup_at _ _ _) (by omega) ((zup_ne (by omega)).trans ((sH_out (by omega)).trans ((zup_ne (by omega)).trans (hT _ (by omega))))) (by omega)
  obtain ⟨g2, hg2⟩ : ∃ g2 : zH, g2 = zup (zup (zup g0 1040 (.inr (1, [.ref 1100, .null, .null, .null, .null, .int 0]))) 1173 (aB 16 fun _ => 0)) 1172 (oSB 1173 0 0) := ⟨_, rfl⟩
  rw [show zup (zup (zup (sH 1100 uNew (zup g0 1040 (.inr (1, [.ref 1100, .null, .null, .null, .null, .int 0])))) 1172 (.inr (19, [.null, .int 0, .int 0, .int 0]))) 1173 (aB 16 fun _ => 0)) 1172 (oSB 1173 0 0) = sH 1100 uNew g2 by rw [hg2, zup_comm (nm := 1172) (n2 := 1173) (c := .inr (19, [.null, .int 0, .int 0, .int 0])) (by omega), zup_zup, sH_upo (by omega), sH_upo (by omega)]] at k2
  have l2 : sH 1100 uNew g2 1040 = some (.inr (1, [.ref 1100, .null, .null, .null, .null, .int 0])) := by rw [hg2]; exact (sH_out (by omega)).trans ((zup_ne (by omega)).trans ((zup_ne (by omega)).trans (zup_at _ _ _)))
  have s2 : zup (sH 1100 uNew g2) 1040 (.inr (1, [.ref 1100, .null, .ref 1172, .null, .null, .int 0])) = sH 1100 uNew (gNew g0) := by
    rw [sH_upo (by omega), hg2]
    congr 1
    unfold gNew
    funext m
    by_cases e : m = 1040
    · subst e; rw [zup_at, zup_at]; rfl
    · rw [zup_ne e, zup_ne e]
      by_cases e1 : m = 1172
      · subst e1; rw [zup_at, zup_at]
      · rw [zup_ne e1, zup_ne e1]
        by_cases e2 : m = 1173
        · subst e2; rw [zup_at, zup_at]
        · rw [zup_ne e2, zup_ne e2, zup_ne e]
  refine zMet.of (by decide) (Nat.le_of_ble_eq_true rfl) fun X K => ?_
  refine z_aload_n K dX1_init_0 rfl rfl rfl ?_
  refine z_objInit K q137 (by omega) (Nat.le_of_ble_eq_true rfl) dX1_init_1 ?_
  refine z_aload_n K dX1_init_4 rfl rfl rfl ?_
  refine z_new K (1100) nw_X1_13 (f1 _) (by omega) (by omega) (by omega) dX1_init_5 ?_
  refine z_dup K dX1_init_8 rfl ?_
  refine z_cI (fs := []) K (k1) cI_X1_15 rfl rfl (by omega) (by omega) (by omega) (Nat.le_of_ble_eq_true rfl) dX1_init_9 zvX (zvK ?_)
  refine z_putE K fd_X1_16_1 (by first | exact ⟨_, rfl, Or.inl rfl⟩ | exact ⟨_, rfl, Or.inr ⟨rfl, rfl, rfl⟩⟩) (l1 _) (by omega) (Nat.le_of_ble_eq_true rfl) (zf_r) dX1_init_12 (s1 _ _) ?_
  refine z_aload_n K dX1_init_15 rfl rfl rfl ?_
  refine z_new K (1172) nw_X1_20 (f2 _) (by omega) (by omega) (by omega) dX1_init_16 ?_
  refine z_dup K dX1_init_19 rfl ?_
  refine z_cI (fs := []) K (k2) cI_X1_22 rfl rfl (by omega) (by omega) (by omega) (Nat.le_of_ble_eq_true rfl) dX1_init_20 zvX (zvK ?_)
  refine z_putE K fd_X1_23_1 (by first | exact ⟨_, rfl, Or.inl rfl⟩ | exact ⟨_, rfl, Or.inr ⟨rfl, rfl, rfl⟩⟩) (l2) (by omega) (Nat.le_of_ble_eq_true rfl) (zf_r) dX1_init_23 (s2) ?_
  exact z_vret K (by omega) (by omega) (⟨rfl, rfl⟩) dX1_init_26
/-- the component as it is made belongs to the reference as it is made -/
theorem CG.new (hA : Am g0) (hT : zTop g0 1000) : CG 1100 1174 uNew (gNew g0) tNew := by
  have lo : ∀ m, m < 1040 → gNew g0 m = g0 m := fun m hm => (zup_ne (by omega)).trans ((zup_ne (by omega)).trans (zup_ne (by omega)))
  have cp := uNew_cp (s := fun _ => 0)
  refine ⟨by omega, by omega, hA.ext (N := 1000) (fun m q => lo m (by omega)) (by omega), fun m hm => (zup_ne (by omega)).trans ((zup_ne (by omega)).trans ((zup_ne (by omega)).trans (hT m (by omega)))), rfl, ⟨cp.1.2.2.1, cp.1.2.2.2.1, ⟨fun _ => 0, fun k k0 k1 => absurd k1 (by show ¬ k < 0; omega)⟩, fun j a c j0 j1 => absurd j1 (by show ¬ j < 0; omega)⟩, fun m i m0 m1 i0 i1 => absurd i1 (by show ¬ i < 0; omega), rfl, by show (0 : Int) ≤ 0 ∧ (0 : Int) ≤ 3000; decide, fun k => by show (0 : Int) ≤ 0 ∧ (0 : Int) ≤ 100000; decide, .null, 1172, .null, .null, zup_at _ _ _, Or.inl ⟨rfl, rfl⟩, ⟨1173, 16, 0, fun _ => 0, sb_new ((zup_ne (by omega)).trans (zup_at _ _ _)) ((zup_ne (by omega)).trans ((zup_ne (by omega)).trans (zup_at _ _ _))) (by omega) (by omega), ⟨by omega, Or.inr (by omega)⟩, ⟨by omega, Or.inr (by omega)⟩⟩, Or.inl ⟨rfl, rfl⟩, Or.inl ⟨rfl, rfl⟩⟩
theorem RJ.new : RJ tNew := ⟨fun _ _ => rfl, rfl, by show (0 : Int) ≤ 0 ∧ (0 : Int) ≤ 3000; decide, fun _ _ => rfl, by show (0 : Int) ≤ 0 ∧ (0 : Int) ≤ 80; decide, fun _ _ => by show (0 : Int) ≤ 0 ∧ (0 : Int) ≤ 65535; decide, by show (-1 : Int) ≤ 0 ∧ (0 : Int) ≤ 1000; decide, by show (0 : Int) ≤ 0 ∧ (0 : Int) ≤ 4; decide, Or.inl rfl, Or.inl rfl⟩
end XPA

