/-! ===== the whole component: what holds of it between calls ===== -/
abbrev oX (b : Nat) (sv : Value) (T : Nat) (fl cl : Value) (st : Int) : zC := .inr (1, [.ref b, sv, .ref T, fl, cl, .int (iI st)])
/-- a name away from the shop at b -/
def aw (b m : Nat) : Prop := 1041 ≤ m ∧ (m < b ∨ b + 72 ≤ m)
/-- below N the cells that are away from the shop at b stay -/
def kp (b N : Nat) (g g' : zH) : Prop := ∀ m, m < N → aw b m → g' m = g m
/-- the shop that was saved -/
def SvG (b N : Nat) (g : zH) (sv : Value) (w : tW) : Prop := (w 2 0 = 0 ∧ sv = .null) ∨ (w 2 0 = 1 ∧ ∃ (b2 : Nat) (u2 : tW), sv = .ref b2 ∧ 1041 ≤ b2 ∧ b2 + 72 ≤ N ∧ (b2 + 72 ≤ b ∨ b + 72 ≤ b2) ∧ (∀ i, i < 72 → g (b2 + i) = sC b2 u2 i) ∧ u2 0 = w 1 ∧ SIr (w 1) ∧ BkOk b2 u2 g ∧ ∀ m i : Int, 0 ≤ m → m ≤ 3 → 0 ≤ i → i < u2 0 (151 + m).toNat → aw b (u2 8 (3 * m.toNat + i.toNat)).toNat)
/-- the text -/
def TxG (b : Nat) (g : zH) (T : Nat) (w : tW) : Prop := ∃ (V K : Nat) (c : Int) (f : Nat → Int), SBp g T V K c (w 5 0).toNat f (w 4) ∧ aw b T ∧ aw b V
/-- where the code of a failure lies -/
def fcl (ci j : Nat) : Prop := (ci = 7 ∧ j = 6) ∨ ((ci = 8 ∨ ci = 14 ∨ ci = 16 ∨ ci = 17) ∧ j = 5)
/-- a failure at q, its cause at p, its code -/
def fO (b : Nat) (g : zH) (q p : Nat) (c : Int) : Prop := aw b q ∧ ∃ (ci j : Nat) (l : List Value), fcl ci j ∧ g q = some (.inr (ci, l)) ∧ l[0]? = some (.ref p) ∧ l[j]? = some (.int (iI c))
def fC (b : Nat) (g : zH) (c : Nat → Int) : Nat → Nat → Nat → Prop
  | 0, i, q => fO b g q q (c i)
  | n + 1, i, q => ∃ p : Nat, p ≠ q ∧ fO b g q p (c i) ∧ fC b g c n (i + 1) p
def FlG (b : Nat) (g : zH) (fl : Value) (w : tW) : Prop := (w 7 0 = 0 ∧ fl = .null) ∨ ∃ n q : Nat, w 7 0 = n + 1 ∧ fl = .ref q ∧ fC b g (w 6) n 0 q
def ClG (b : Nat) (g : zH) (cl : Value) (w : tW) : Prop := (w 9 0 = 0 ∧ cl = .null) ∨ (w 9 0 = 1 ∧ ∃ c : Nat, cl = .ref c ∧ aw b c ∧ g c = some (aI 4 (w 8)))
def CR (b N : Nat) (g : zH) (w : tW) : Prop := ∃ (sv : Value) (T : Nat) (fl cl : Value), g 1040 = some (oX b sv T fl cl (w 10 0)) ∧ SvG b N g sv w ∧ TxG b g T w ∧ FlG b g fl w ∧ ClG b g cl w
/-- the component's cells: the shop at b with the world u, all else in g; free from N on -/
def CG (b N : Nat) (u : tW) (g : zH) (w : tW) : Prop := 1100 ≤ b ∧ b + 72 ≤ N ∧ Am g ∧ zTop g N ∧ u 0 = w 0 ∧ SIr (u 0) ∧ BkOk b u g ∧ u 5 2 = -1 ∧ (0 ≤ u 5 3 ∧ u 5 3 ≤ 3000) ∧ T3 u ∧ CR b N g w
def CX (h : zH) (w : tW) : Prop := ∃ (b N : Nat) (u : tW) (g : zH), h = sH b u g ∧ CG b N u g w
/-- the fields of the reference that the component's own cells follow -/
def sw (w w' : tW) : Prop := ∀ f, 1 ≤ f → f ≤ 10 → f ≠ 3 → w' f = w f
theorem zTop.lt {g : zH} {N m : Nat} {c : zC} (h : zTop g N) (e : g m = some c) : m < N := by
  rcases Nat.lt_or_ge m N with q | q
  · exact q
  · rw [h m q] at e; cases e
section XCg
variable {b b' N N' : Nat} {g g' : zH} {w w' : tW}
theorem aw.mv {m : Nat} (h : aw b m) (hm : m < N) (hb : b' = b ∨ N ≤ b') : aw b' m := ⟨h.1, by rcases hb with rfl | q; exact h.2; left; omega⟩
theorem SvG.mv {sv : Value} (h : SvG b N g sv w) (hT : zTop g N) (k : kp b N g g') (hb : b' = b ∨ N ≤ b') (hN : N ≤ N') (h2 : w' 2 = w 2) (h1 : w' 1 = w 1) : SvG b' N' g' sv w' := by
  unfold SvG
  rw [h1, h2]
  refine h.imp id fun ⟨e, b2, u2, a1, a2, a3, a4, a5, a6, a7, a8, a9⟩ => ⟨e, b2, u2, a1, a2, by omega, by rcases hb with rfl | q <;> omega, fun i hi => ?_, a6, a7, fun m i m0 m1 i0 i1 => ?_, fun m i m0 m1 i0 i1 => ?_⟩
  · rw [k (b2 + i) (by omega) ⟨by omega, by omega⟩]; exact a5 i hi
  · obtain ⟨c1, c2, c3, c4⟩ := a8 m i m0 m1 i0 i1
    exact ⟨c1, c2, c3, by rw [k _ (hT.lt c4) (a9 m i m0 m1 i0 i1)]; exact c4⟩
  · obtain ⟨c1, c2, c3, c4⟩ := a8 m i m0 m1 i0 i1
    exact (a9 m i m0 m1 i0 i1).mv (hT.lt c4) hb
theorem TxG.mv {T : Nat} (h : TxG b g T w) (hT : zTop g N) (k : kp b N g g') (hb : b' = b ∨ N ≤ b') (h4 : w' 4 = w 4) (h5 : w' 5 = w 5) : TxG b' g' T w' := by
  obtain ⟨V, K, c, f, ⟨a1, a2, a3⟩, a4, a5⟩ := h
  unfold TxG
  rw [h4, h5]
  exact ⟨V, K, c, f, ⟨by rw [k T (hT.lt a1) a4]; exact a1, by rw [k V (hT.lt a2) a5]; exact a2, a3⟩, a4.mv (hT.lt a1) hb, a5.mv (hT.lt a2) hb⟩
theorem fO.mv {q p : Nat} {c : Int} (h : fO b g q p c) (hT : zTop g N) (k : kp b N g g') (hb : b' = b ∨ N ≤ b') : fO b' g' q p c := by
  obtain ⟨a1, ci, j, l, a2, a3, a4⟩ := h
  exact ⟨a1.mv (hT.lt a3) hb, ci, j, l, a2, by rw [k q (hT.lt a3) a1]; exact a3, a4⟩
theorem fC.mv {c : Nat → Int} (hT : zTop g N) (k : kp b N g g') (hb : b' = b ∨ N ≤ b') : ∀ (n i q : Nat), fC b g c n i q → fC b' g' c n i q
  | 0, i, q, h => fO.mv h hT k hb
  | n + 1, i, q, ⟨p, h1, h2, h3⟩ => ⟨p, h1, h2.mv hT k hb, fC.mv hT k hb n (i + 1) p h3⟩
theorem FlG.mv {fl : Value} (h : FlG b g fl w) (hT : zTop g N) (k : kp b N g g') (hb : b' = b ∨ N ≤ b') (h6 : w' 6 = w 6) (h7 : w' 7 = w 7) : FlG b' g' fl w' := by
  unfold FlG
  rw [h6, h7]
  exact h.imp id fun ⟨n, q, a1, a2, a3⟩ => ⟨n, q, a1, a2, fC.mv hT k hb n 0 q a3⟩
theorem ClG.mv {cl : Value} (h : ClG b g cl w) (hT : zTop g N) (k : kp b N g g') (hb : b' = b ∨ N ≤ b') (h8 : w' 8 = w 8) (h9 : w' 9 = w 9) : ClG b' g' cl w' := by
  unfold ClG
  rw [h8, h9]
  exact h.imp id fun ⟨e, c, a1, a2, a3⟩ => ⟨e, c, a1, a2.mv (hT.lt a3) hb, by rw [k c (hT.lt a3) a2]; exact a3⟩
theorem CR.mv (h : CR b N g w) (hT : zTop g N) (k : kp b N g g') (h40 : g' 1040 = g 1040) (hN : N ≤ N') (hs : sw w w') : CR b N' g' w' := by
  obtain ⟨sv, T, fl, cl, a1, a2, a3, a4, a5⟩ := h
  exact ⟨sv, T, fl, cl, by rw [h40, hs 10 (by decide) (by decide) (by decide)]; exact a1, a2.mv hT k (Or.inl rfl) hN (hs 2 (by decide) (by decide) (by decide)) (hs 1 (by decide) (by decide) (by decide)), a3.mv hT k (Or.inl rfl) (hs 4 (by decide) (by decide) (by decide)) (hs 5 (by decide) (by decide) (by decide)), a4.mv hT k (Or.inl rfl) (hs 6 (by decide) (by decide) (by decide)) (hs 7 (by decide) (by decide) (by decide)), a5.mv hT k (Or.inl rfl) (hs 8 (by decide) (by decide) (by decide)) (hs 9 (by decide) (by decide) (by decide))⟩
/-- the shop's world changes, and what is new lies above N -/
theorem CG.mv {u u' : tW} (h : CG b N u g w) (he : zExt N g g') (hT' : zTop g' N') (hN : N ≤ N') (hs : sw w w') (h0 : u' 0 = w' 0) (hI : SIr (u' 0)) (hB : BkOk b u' g') (h2 : u' 5 2 = u 5 2) (h3 : u' 5 3 = u 5 3) (h4 : T3 u → T3 u') : CG b N' u' g' w' := by
  obtain ⟨a1, a2, a3, a4, a5, a6, a7, a8, a9, a10, a11⟩ := h
  exact ⟨a1, by omega, a3.ext he (by omega), hT', h0, hI, hB, by rw [h2]; exact a8, by rw [h3]; exact a9, h4 a10, a11.mv a4 (fun m hm _ => he m hm) (he 1040 (by omega)) hN hs⟩
/-- an exception is made, nothing else -/
theorem CG.up {u : tW} {c : zC} (h : CG b N u g w) (hs : sw w w') (h0 : w' 0 = w 0) : CX (zup (sH b u g) N c) w' := by
  have hbN := h.2.1
  have hT := h.2.2.2.1
  refine ⟨b, N + 1, u, zup g N c, sH_upo (by omega), h.mv (fun m hm => zup_ne (by omega)) (fun m hm => (zup_ne (by omega)).trans (hT m (by omega))) (by omega) hs (by rw [h0]; exact h.2.2.2.2.1) h.2.2.2.2.2.1 (h.2.2.2.2.2.2.1.ext (fun m hm => zup_ne (by omega)) hT) rfl rfl id⟩
/-- nothing happens -/
theorem CG.same {u : tW} (h : CG b N u g w) (hs : sw w w') (h0 : w' 0 = w 0) : CX (sH b u g) w' := ⟨b, N, u, g, rfl, h.mv zExt.rf h.2.2.2.1 (Nat.le_refl _) hs (by rw [h0]; exact h.2.2.2.2.1) h.2.2.2.2.2.1 h.2.2.2.2.2.2.1 rfl rfl id⟩
/-- the world of the shop changes -/
theorem CG.shop {u u' : tW} (h : CG b N u g w) (hs : sw w w') (h0 : u' 0 = w' 0) (hI : SIr (u' 0)) (hB : BkOk b u' g) (h2 : u' 5 2 = u 5 2) (h3 : u' 5 3 = u 5 3) (h4 : T3 u → T3 u') : CX (sH b u' g) w' := ⟨b, N, u', g, rfl, h.mv zExt.rf h.2.2.2.1 (Nat.le_refl _) hs h0 hI hB h2 h3 h4⟩
/-- times are found: the row stays -/
theorem CG.sk {u u' : tW} (h : CG b N u g w) (k : SK u u') : CG b N u' g w := by
  have e0 : u' 0 = u 0 := k.1 0 (by decide) (by decide) (by decide) (by decide) (by decide)
  exact h.mv zExt.rf h.2.2.2.1 (Nat.le_refl _) (fun _ _ _ _ => rfl) (by rw [e0]; exact h.2.2.2.2.1) (by rw [e0]; exact h.2.2.2.2.2.1) (k.bk h.2.2.2.2.2.2.1) k.2.1 k.2.2.1 k.2.2.2
theorem CG.x {u : tW} (h : CG b N u g w) : ∃ (sv : Value) (T : Nat) (fl cl : Value), sH b u g 1040 = some (oX b sv T fl cl (w 10 0)) := by
  have h1 := h.1
  obtain ⟨sv, T, fl, cl, a1, -⟩ := h.2.2.2.2.2.2.2.2.2.2
  exact ⟨sv, T, fl, cl, (sH_out (by omega)).trans a1⟩
theorem sw.set {k : Int} : sw w (tset w 3 0 k) := fun f _ _ h => by funext i; exact tset_f h
theorem sw.tr {w1 w2 : tW} (h : sw w w1) (k : sw w1 w2) : sw w w2 := fun f a b c => (k f a b c).trans (h f a b c)
theorem sw.fr {S : List Nat} (h : Fr S w w') (hS : ∀ f, 1 ≤ f → f ≤ 10 → f ≠ 3 → f ∉ S) : sw w w' := fun f a b c => h f (hS f a b c)
theorem set3_0 {k : Int} : tset w 3 0 k 0 = w 0 := by funext i; exact tset_f (by decide)
theorem set3_3 {k : Int} : tset w 3 0 k 3 0 = k := tset_s
/-- what an operation of the component ends with, held against the reference's R -/
def cQ (h : zH) (R : Int → tW → Prop) (cd : Nat → Int) : zO → zH → Prop := fun z h' => (∀ m, m < 1040 → h' m = h m) ∧ ((∃ v : Int, z = .inl (some (.int (iI v))) ∧ ∀ v' w', R v' w' → w' 3 0 = 0 ∧ v' = v ∧ CX h' w') ∨ (∃ (q ci : Nat) (fs : List Value), z = .inr q ∧ h' q = some (.inr (ci, fs)) ∧ cd ci ≠ 0 ∧ ∀ v' w', R v' w' → w' 3 0 = cd ci ∧ CX h' w'))
end XCg
