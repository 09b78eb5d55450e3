/-! ===== the component: the search's cells ===== -/
/-- the cells of a search: the object at S, its list of n steps at S + 1 .., its best orders (row bs) at B .., all below N -/
def seH (b S B N : Nat) (g : zH) (s bs x : Nat → Int) (n : Nat) (M : Nat → Nat) (F G : Nat → Int) : Prop :=
  S + 5 ≤ B ∧ B + 12 ≤ N ∧ zTop g N ∧ g S = some (.inr (10, seF b (S + 1) B x)) ∧ (∀ m, S + 1 ≤ m → m < S + 5 → g m = lH (S + 1) n n M g m) ∧ (∀ i, i < n → S + 5 ≤ M i ∧ M i < N ∧ g (M i) = some (.inr (11, [.int (iI (F i)), .int (iI (G i)), .int (iI i)]))) ∧ (∀ m, B ≤ m → m < B + 4 → g m = lH B 4 4 (fun i => B + 4 + 2 * i) g m) ∧ fourO g (fun i => B + 4 + 2 * i) (fun i => B + 5 + 2 * i) s (fun m q => bs (183 + 5 * m + q))
theorem lH_in {L m : Nat} {c : Int} {n : Nat} {f : Nat → Nat} {g g' : zH} (h1 : L ≤ m) (h2 : m < L + 4) : lH L c n f g m = lH L c n f g' m := by
  rcases (by omega : m = L ∨ m = L + 1 ∨ m = L + 2 ∨ m = L + 3) with rfl | rfl | rfl | rfl
  · rw [lH_0, lH_0]
  · rw [lH_1, lH_1]
  · rw [lH_2, lH_2]
  · rw [lH_3, lH_3]
theorem lH_self {L : Nat} {c : Int} {n : Nat} {f : Nat → Nat} {g : zH} (h : ∀ m, L ≤ m → m < L + 4 → g m = lH L c n f g m) : lH L c n f g = g := by
  funext m
  by_cases e : m < L ∨ L + 4 ≤ m
  · rw [lH_o e]
  · exact (h m (by omega) (by omega)).symm
theorem fourO_s {g : zH} {f r : Nat → Nat} {s s' : Nat → Int} {F : Nat → Nat → Int} (h : fourO g f r s F) (e : ∀ m, m < 4 → s' (179 + m) = s (179 + m)) : fourO g f r s' F := fun m hm => ⟨by rw [e m hm]; exact (h m hm).1, (h m hm).2⟩
theorem seH.ext {b S B N N' : Nat} {g g' : zH} {s s' bs x x' : Nat → Int} {n : Nat} {M : Nat → Nat} {F G : Nat → Int} (h : seH b S B N g s bs x n M F G) (hx : ∀ m, m < N → m ≠ S → g' m = g m) (hS : g' S = some (.inr (10, seF b (S + 1) B x'))) (ht : zTop g' N') (hN : N ≤ N') (e : ∀ m, m < 4 → s' (179 + m) = s (179 + m)) : seH b S B N' g' s' bs x' n M F G := by
  obtain ⟨h1, h2, h3, h4, h5, h6, h7, h8⟩ := h
  refine ⟨h1, by omega, ht, hS, fun m m1 m2 => ?_, fun i hi => ?_, fun m m1 m2 => ?_, fourO_s (fun m hm => ?_) e⟩
  · rw [hx m (by omega) (by omega), h5 m m1 m2]; exact lH_in m1 (by omega)
  · obtain ⟨a1, a2, a3⟩ := h6 i hi
    exact ⟨a1, by omega, by rw [hx _ a2 (by omega)]; exact a3⟩
  · rw [hx m (by omega) (by omega), h7 m m1 m2]; exact lH_in m1 m2
  · have := h8 m hm
    exact ⟨by rw [hx _ (by omega) (by omega)]; exact this.1, by rw [hx _ (by omega) (by omega)]; exact this.2⟩
theorem BkOk.up {b : Nat} {u : tW} {g g' : zH} (h : BkOk b u g) (e : ∀ m l, g m = some (.inr (6, l)) → g' m = some (.inr (6, l))) : BkOk b u g' := fun m i a1 a2 a3 a4 => by
  obtain ⟨q1, q2, q3, q4⟩ := h m i a1 a2 a3 a4
  exact ⟨q1, q2, q3, e _ _ q4⟩
theorem zOb_md {h : zH} {o : Nat} {l : List Value} (e : h o = some (.inr (11, l))) : zOb h o := Or.inl ⟨_, _, _, e, rfl, q2307⟩
theorem sXc_sPut {s : Nat → Int} {m p : Nat} (hp : p + 1 < 5) : sPut s m 5 (exF (fun q => s (183 + 5 * m + q)) p) = sXc s m p := sPut_ex hp
theorem seH.add {b S B N : Nat} {g g2 : zH} {s bs x x' : Nat → Int} {n : Nat} {M : Nat → Nat} {F G : Nat → Int} {a c : Int} (h : seH b S B N g s bs x n M F G) (N9 : Nat) (hN : N ≤ N9) (hx : ∀ m, m < N → m ≠ S → g2 m = g m) (hS : g2 S = some (.inr (10, seF b (S + 1) B x'))) (h9 : g2 N9 = some (.inr (11, [.int (iI a), .int (iI c), .int (iI n)]))) (ht : zTop g2 (N9 + 1)) : seH b S B (N9 + 1) (lH (S + 1) ((n : Int) + 1) (n + 1) (fun i => if i = n then N9 else M i) g2) s bs x' (n + 1) (fun i => if i = n then N9 else M i) (sup F n a) (sup G n c) := by
  obtain ⟨h1, h2, h3, h4, h5, h6, h7, h8⟩ := h
  refine ⟨h1, by omega, fun m hm => (lH_o (by omega)).trans (ht m hm), (lH_o (by omega)).trans hS, fun m m1 m2 => lH_in m1 (by omega), fun i hi => ?_, fun m m1 m2 => ?_, fun m hm => ?_⟩
  · by_cases e : i = n
    · subst e
      simp only [if_pos]
      rw [sup_s, sup_s]
      exact ⟨by omega, by omega, (lH_o (by omega)).trans h9⟩
    · simp only [if_neg e]
      obtain ⟨a1, a2, a3⟩ := h6 i (by omega)
      rw [sup_n e, sup_n e]
      exact ⟨a1, by omega, (lH_o (by omega)).trans ((hx _ a2 (by omega)).trans a3)⟩
  · rw [lH_o (by omega), hx m (by omega) (by omega), h7 m m1 m2]
    exact lH_in m1 m2
  · have := h8 m hm
    dsimp only at this ⊢
    exact ⟨(lH_o (by omega)).trans ((hx _ (by omega) (by omega)).trans this.1), (lH_o (by omega)).trans ((hx _ (by omega) (by omega)).trans this.2)⟩
theorem seH.keep {b S B N : Nat} {g g' : zH} {s bs bs' x x' : Nat → Int} {n : Nat} {M : Nat → Nat} {F G : Nat → Int} (h : seH b S B N g s bs x n M F G) (hx : ∀ m, m < N → m ≠ S → g' m = g m) (h4 : fourO g' (fun i => N + 4 + 2 * i) (fun i => N + 5 + 2 * i) s (fun m q => bs' (183 + 5 * m + q))) (ht : zTop g' (N + 12)) : seH b S N (N + 12) (zup (lH N 4 4 (fun i => N + 4 + 2 * i) g') S (.inr (10, seF b (S + 1) N x'))) s bs' x' n M F G := by
  obtain ⟨h1, h2, h3, h4', h5, h6, h7, h8⟩ := h
  refine ⟨by omega, by omega, fun m hm => (zup_ne (by omega)).trans ((lH_o (by omega)).trans (ht m hm)), zup_at _ _ _, fun m m1 m2 => ?_, fun i hi => ?_, fun m m1 m2 => ?_, fun m hm => ?_⟩
  · rw [zup_ne (by omega), lH_o (by omega), hx m (by omega) (by omega), h5 m m1 m2]
    exact lH_in m1 (by omega)
  · obtain ⟨a1, a2, a3⟩ := h6 i hi
    exact ⟨a1, by omega, (zup_ne (by omega)).trans ((lH_o (by omega)).trans ((hx _ a2 (by omega)).trans a3))⟩
  · rw [zup_ne (by omega)]
    exact lH_in m1 m2
  · have := h4 m hm
    dsimp only at this ⊢
    exact ⟨(zup_ne (by omega)).trans ((lH_o (by omega)).trans this.1), (zup_ne (by omega)).trans ((lH_o (by omega)).trans this.2)⟩
/-- numbers that an int can hold -/
def rX (x : Nat → Int) : Prop := ∀ i, i < 6 → -2147483648 ≤ x i ∧ x i ≤ 2147483647
theorem rX.sup {x : Nat → Int} {k : Nat} {v : Int} (h : rX x) (hv : -2147483648 ≤ v ∧ v ≤ 2147483647) : rX (sup x k v) := fun i hi => by
  by_cases e : i = k
  · subst e; rw [sup_s]; exact hv
  · rw [sup_n e]; exact h i hi
theorem rX.try {x : Nat → Int} {m p v f : Int} (h : rX x) (hm : 0 ≤ m ∧ m ≤ 1000) (hp : 0 ≤ p ∧ p ≤ 1000) (hv : -1 ≤ v ∧ v ≤ 2000) : rX (tryX x m p v f) := by
  unfold tryX
  split
  · exact ((h.sup (by omega)).sup (by omega)).sup (by omega)
  · exact h
theorem tryX_k {x : Nat → Int} {m p v f : Int} {i : Nat} (hi : i < 3) : tryX x m p v f i = x i := by
  unfold tryX
  split
  · rw [sup_n (by omega), sup_n (by omega), sup_n (by omega)]
  · rfl
section XSt
variable {S b B N n : Nat} {u : tW} {g : zH} {x bs rd st : Nat → Int} {M : Nat → Nat} {F G : Nat → Int}
/-- what a step ends with -/
def stpN (b S B n : Nat) (u : tW) (g : zH) (x bs rd st : Nat → Int) (M : Nat → Nat) (F G : Nat → Int) (h' : zH) : Prop := ∃ (u' : tW) (g' : zH) (x' : Nat → Int) (N' : Nat), h' = sH b u' g' ∧ u' 0 = u 0 ∧ SO u u' ∧ (∀ m, m < S → g' m = g m) ∧ (∀ m p v, ¬ admT (u 0) (oB 0) rd st (fbL (laN F G n) n (x 0)) (x 1) (pthS (u 0) (oB 0) rd st).length m p v) ∧ seH b S B N' g' (u 0) bs x' n M F G ∧ (x' 0 = x 0 ∧ x' 1 = x 1 ∧ x' 2 = x 2) ∧ rX x'
def stpY (b S n : Nat) (u : tW) (g : zH) (x bs rd st : Nat → Int) (F G : Nat → Int) (h' : zH) : Prop := ∃ (u' : tW) (g' : zH) (x' : Nat → Int) (N' B' : Nat) (M' : Nat → Nat) (m p : Nat) (v : Int) (rd' st' : Nat → Int), h' = sH b u' g' ∧ pckT (u 0) (oB 0) rd st (fbL (laN F G n) n (x 0)) (x 1) (pthS (u 0) (oB 0) rd st).length m p v ∧ (m ≤ 3 ∧ p + 1 < 5 ∧ (p : Int) + 1 < sOn (u 0) m) ∧ u' 0 = sXc (u 0) m p ∧ SO u u' ∧ (∀ q, q < S → g' q = g q) ∧ SF u' (oB 0) rd' st' ∧ Tp (u' 0) (oB 0) (-1) 0 rd' st' ∧ Tq (u' 0) (oB 0) st' ∧ x' 0 = x 0 ∧ x' 1 = (if v < x 1 then v else x 1) ∧ x' 2 = x 2 + 1 ∧ (0 ≤ v ∧ v ≤ 2000) ∧ rX x' ∧ BkOk b u' g' ∧
  seH b S B' N' g' (u' 0) (if v < x 1 then sXc (u 0) m p else bs) x' (n + 1) M' (sup F n (sOr (u 0) m (p + 1))) (sup G n (sOr (u 0) m p))

theorem x11_step (hb : 1000 ≤ b) (hSb : b + 72 ≤ S) (hAm : Am g) (hA : WfA (u 0)) (hO : WfO (u 0)) (hB : BkOk b u g) (h52 : u 5 2 = -1) (h53 : 0 ≤ u 5 3 ∧ u 5 3 ≤ 3000) (hSF : SF u (oB 0) rd st) (hT : Tp (u 0) (oB 0) (-1) 0 rd st) (hse : seH b S B N g (u 0) bs x n M F G) (hx2 : x 2 = n) (hn20 : n < 20) (hten : 0 ≤ x 0 ∧ x 0 ≤ 9) (hx1 : 0 ≤ x 1 ∧ x 1 ≤ 100000) (hxr : rX x) (hrF : ∀ i, i < n → (0 ≤ F i ∧ F i < 20) ∧ 0 ≤ G i ∧ G i < 20) :
    zMet yX11_step (ws_ yX11_step cX11_step 4 (some .boolean)) 10 [.ref S] (sH b u g) (fun z h' => (z = .inl (some (.int (iI 0))) ∧ stpN b S B n u g x bs rd st M F G h') ∨ (z = .inl (some (.int (iI 1))) ∧ stpY b S n u g x bs rd st F G h')) 76 1400 := by
  have h20 := hA.2.1.1
  obtain ⟨se1, se2, se3, se4, se5, se6, se7, se8⟩ := id hse
  refine zMet.of (by decide) (Nat.le_of_ble_eq_true rfl) fun X K => ?_
  have hq0 : ∀ h', stpN b S B n u g x bs rd st M F G h' → (fun (z : zO) (h' : zH) => (z = .inl (some (.int (iI 0))) ∧ stpN b S B n u g x bs rd st M F G h') ∨ (z = .inl (some (.int (iI 1))) ∧ stpY b S n u g x bs rd st F G h')) (.inl (some (.int (iI 0)))) h' := fun h' q => Or.inl ⟨rfl, q⟩
  have hq1 : ∀ h', stpY b S n u g x bs rd st F G h' → (fun (z : zO) (h' : zH) => (z = .inl (some (.int (iI 0))) ∧ stpN b S B n u g x bs rd st M F G h') ∨ (z = .inl (some (.int (iI 1))) ∧ stpY b S n u g x bs rd st F G h')) (.inl (some (.int (iI 1)))) h' := fun h' q => Or.inr ⟨rfl, q⟩
  generalize (fun (z : zO) (h' : zH) => (z = .inl (some (.int (iI 0))) ∧ stpN b S B n u g x bs rd st M F G h') ∨ (z = .inl (some (.int (iI 1))) ∧ stpY b S n u g x bs rd st F G h')) = Q at *
  have hpath := x2_path (b := b) (u := u) (g := g) (N := N) hb (by omega) hAm se3 hA hO hSF hT
  generalize hs : u 0 = s at *
  have c8 : ∀ (c : Int) (g' : zH), zExt N g g' → zTop g' (N + 4) → (pthS s (oB 0) rd st).length ≤ 20 → (∀ i : Nat, i < (pthS s (oB 0) rd st).length → 0 ≤ pthF s (oB 0) rd st i ∧ pthF s (oB 0) rd st i < s 1) → ∀ env, zsub env [(0, .ref S)] → zW X Q (sH b u (lH (N + 4) c (pthS s (oB 0) rd st).length (fun i => b + 52 + (pthF s (oB 0) rd st i).toNat) g')) 60 1200 7 env [.ref (N + 4)] := by
    intro c g' hx ht hl20 hpr env he
    generalize hln : (pthS s (oB 0) rd st).length = len at *
    have hse1 : ∃ N9, (n ≠ 0 → g (lA (S + 1) n) = some (aR N9 n M)) ∧ n ≤ N9 ∧ N9 ≤ 22 := by
      by_cases e : n = 0
      · exact ⟨0, fun q => absurd e q, by omega, by omega⟩
      · obtain ⟨N9, q1, q2, q3⟩ := lH_a (L := S + 1) (c := (n : Int)) (n := n) (f := M) (g := g) (by omega) (by omega)
        exact ⟨N9, fun _ => by rw [lH_self (fun m m1 m2 => se5 m m1 (by omega))] at q1; exact q1, q2, q3⟩
    obtain ⟨N9, n91, n92, n93⟩ := hse1
    have hlA : n ≠ 0 → S + 2 ≤ lA (S + 1) n ∧ lA (S + 1) n < S + 5 := fun q => by unfold lA; rw [if_neg q]; split; omega; split <;> omega
    have hL0 : g (S + 1) = some (oL n (lA (S + 1) n) n) := (se5 _ (by omega) (by omega)).trans lH_0
    have hP0 : lH (N + 4) c len (fun i => b + 52 + (pthF s (oB 0) rd st i).toNat) g' (N + 4) = some (oL c (lA (N + 4) len) len) := lH_0
    have hPa : 0 < len → ∃ N8, lH (N + 4) c len (fun i => b + 52 + (pthF s (oB 0) rd st i).toNat) g' (lA (N + 4) len) = some (aR N8 len (fun i => b + 52 + (pthF s (oB 0) rd st i).toNat)) ∧ len ≤ N8 ∧ N8 ≤ 22 := fun q => lH_a q (by omega)
    have hPA : 0 < len → N + 4 < lA (N + 4) len := fun q => by unfold lA; rw [if_neg (by omega)]; split; omega; split <;> omega
    have g1o : ∀ m, m < N → lH (N + 4) c len (fun i => b + 52 + (pthF s (oB 0) rd st i).toNat) g' m = g m := fun m hm => (lH_o (by omega)).trans (hx m hm)
    have g1t : zTop (lH (N + 4) c len (fun i => b + 52 + (pthF s (oB 0) rd st i).toNat) g') (N + 8) := fun m hm => (lH_o (by omega)).trans (ht m (by omega))
    generalize lH (N + 4) c len (fun i => b + 52 + (pthF s (oB 0) rd st i).toNat) g' = g1 at *
    have hgo : ∀ (y : Nat → Int) (m : Nat), m < N → m ≠ S → zup g1 S (.inr (10, seF b (S + 1) B y)) m = g m := fun y m m1 m2 => (zup_ne m2).trans (g1o m m1)
    have hBu : ∀ (g2 : zH) (u1 : tW), u1 0 = s → SO u u1 → (∀ m, m < N → m ≠ S → (m < S + 1 ∨ S + 5 ≤ m) → g2 m = g m) → BkOk b u1 g2 := fun g2 u1 e1 so eg => by
      refine (so.bk (by rw [hs]; exact hA.2.2.2.2.2) (fun i hi => by rw [e1, hs]) hB).up fun m l hm => ?_
      have m1 : m < N := by
        rcases Nat.lt_or_ge m N with q | q
        · exact q
        · rw [se3 m q] at hm; cases hm
      have m2 : m ≠ S := fun q => by rw [q, se4] at hm; injection hm with hm; injection hm with hm; injection hm with hm; omega
      have m3 : m < S + 1 ∨ S + 5 ≤ m := by
        rcases Nat.lt_or_ge m (S + 1) with q | q
        · exact Or.inl q
        · rcases Nat.lt_or_ge m (S + 5) with q2 | q2
          · rw [se5 m q q2] at hm
            exfalso
            rcases (by omega : m = S + 1 ∨ m = S + 1 + 1 ∨ m = S + 1 + 2 ∨ m = S + 1 + 3) with rfl | rfl | rfl | rfl
            · rw [lH_0] at hm; injection hm with hm; injection hm with hm; injection hm with hm; omega
            · rw [lH_1] at hm; split at hm <;> first | cases hm | (have hm := Option.some.inj hm; unfold aR at hm; cases hm)
            · rw [lH_2] at hm; split at hm <;> first | cases hm | (have hm := Option.some.inj hm; unfold aR at hm; cases hm)
            · rw [lH_3] at hm; split at hm <;> first | cases hm | (have hm := Option.some.inj hm; unfold aR at hm; cases hm)
          · exact Or.inr q2
      rw [eg m m1 m2 m3]
      exact hm
    have opk : ∀ (u1 : tW) (g2 : zH), u1 0 = s → ∀ k : Int, (0 ≤ k ∧ k < s 1) → sH b u1 g2 (b + 52 + k.toNat) = some (.inr (5, [.int (iI k), .int (iI (s (42 + k).toNat)), .int (iI (s (62 + k).toNat)), .int (iI (s (102 + k).toNat)), .int (iI (s (122 + k).toNat)), .int (iI (s (82 + k).toNat))])) := fun u1 g2 e1 k hk => by
      have := sH_op (b := b) (u := u1) (g := g2) (k := k) (by rw [e1]; exact hk) (by rw [e1]; omega)
      rw [e1] at this
      exact this
    have c78 : ∀ (u1 : tW) (xk : Nat → Int), u1 0 = s → SO u u1 → pckX s (oB 0) rd st (fbL (laN F G n) n (x 0)) (x 1) len xk → (xk 0 = x 0 ∧ xk 1 = x 1 ∧ xk 2 = x 2) → rX xk → ∀ env, zsub env [(0, .ref S)] → zW X Q (sH b u1 (zup g1 S (.inr (10, seF b (S + 1) B xk)))) 60 1200 78 env [] := by
      intro u1 xk e1 so pk xe xr env he
      refine zW.cut he ?_
      have hGS : sH b u1 (zup g1 S (.inr (10, seF b (S + 1) B xk))) S = some (.inr (10, seF b (S + 1) B xk)) := (sH_out (by omega)).trans (zup_at _ _ _)
      have xr3 := xr 3 (by omega)
      rcases pk with ⟨pk3, pkn⟩ | ⟨pk3, pkT⟩
      · have fin := hq0 _ ⟨u1, _, xk, N + 8, rfl, e1.trans hs.symm, so, fun m hm => (hgo xk m (by omega) (by omega)), by rw [hs]; rw [hln]; exact pkn, by rw [hs]; exact hse.ext (hgo xk) (zup_at _ _ _) (fun m hm => (zup_ne (by omega)).trans (g1t m hm)) (by omega) (fun _ _ => rfl), xe, xr⟩
        refine z_aload_n K dX11_step_78 rfl rfl rfl ?_
        refine z_get K fd_X11_95_10 (hGS) rfl dX11_step_79 ?_
        refine j_iconst K dX11_step_82 ?_
        refine j_icmp_ne (tgt := 88) K dX11_step_83 rfl (by exact xr3) (by omega) (fun c_83 => ?_) (fun c_83 => ?_)
        · exact absurd pk3 c_83
        · refine j_iconst K dX11_step_86 ?_
          exact z_zret K (iI_b (by omega)) (by omega) (by omega) (fin) dX11_step_87
      · obtain ⟨⟨i, i1, i2, i3, i4, i5, i6, i7⟩, pkl⟩ := id pkT
        have ir := hpr (i + 1) i1
        obtain ⟨p, p0, p1, p2, p3, p4, p5⟩ := pthF_adj hA hO (by rw [hln]; exact i1) ir (i2.trans i3.symm)
        have mr := (hA.2.1.2 _ (hpr i (by omega)).1 (hpr i (by omega)).2).2.1
        rw [i2] at p1 p4 p5 mr
        rw [p2] at i4
        subst i4
        obtain ⟨m, hm⟩ := Int.eq_ofNat_of_zero_le mr.1
        obtain ⟨pn, hpn⟩ := Int.eq_ofNat_of_zero_le p0
        rw [hm] at p1 p4 p5 i5
        rw [hpn] at p1 p4 p5 i5
        have hm3 : m ≤ 3 := by omega
        have on := (hO m (by omega) (by omega)).1
        generalize hv : xk 5 = v at *
        have hxA := sXc_A (m := m) (p := pn) (by omega) (by omega) hA
        have hxO := sXc_O (m := m) (p := pn) hA hO (by omega) (by omega)
        have hac : ACy (sXc s m pn) (oB 0) := i5.ac hxA hxO i6
        have pkT2 : pckT s (oB 0) rd st (fbL (laN F G n) n (x 0)) (x 1) len m pn v := by rw [← hm, ← hpn]; exact pkT
        have hn5 : pn + 1 < 5 := by omega
        have xr5 := xr 5 (by omega)
        have hgd := gt_ord (b := b) (u := u1) (g := zup g1 S (.inr (10, seF b (S + 1) B xk))) (m := m) (by omega)
        rw [Int.toNat_natCast] at hgd
        have hor : ∀ g2 : zH, sH b u1 g2 (b + 20 + m) = some (oO (b + 24 + m) (s (179 + m))) := fun g2 => by rw [← e1]; exact sH_oN hm3
        have hrw : ∀ g2 : zH, sH b u1 g2 (b + 24 + m) = some (aI 5 fun q => s (183 + 5 * m + q)) := fun g2 => by rw [← e1]; exact sH_rN hm3
        have ef : s (183 + 5 * m + ((pn : Int) + 1).toNat) = sOr s m (pn + 1) := congrArg s (by omega)
        have eg : s (183 + 5 * m + (pn : Int).toNat) = sOr s m pn := congrArg s (by omega)
        -- the cells with the new step
        generalize hG2 : zup (zup g1 S (.inr (10, seF b (S + 1) B xk))) (N + 8) (.inr (11, [.int (iI (sOr s m (pn + 1))), .int (iI (sOr s m pn)), .int (iI n)])) = g2
        have g2o : ∀ q, q < N → q ≠ S → g2 q = g q := fun q q1 q2 => by rw [← hG2, zup_ne (by omega)]; exact hgo xk q q1 q2
        have g2S : g2 S = some (.inr (10, seF b (S + 1) B xk)) := by rw [← hG2, zup_ne (by omega)]; exact zup_at _ _ _
        have g29 : g2 (N + 8) = some (.inr (11, [.int (iI (sOr s m (pn + 1))), .int (iI (sOr s m pn)), .int (iI n)])) := by rw [← hG2]; exact zup_at _ _ _
        have g2t : zTop g2 (N + 8 + 1) := fun q hq => by rw [← hG2, zup_ne (by omega), zup_ne (by omega)]; exact g1t q (by omega)
        have g2l : lH (S + 1) n n M g2 = g2 := lH_self fun q q1 q2 => by rw [g2o q (by omega) (by omega), se5 q q1 (by omega)]; exact lH_in q1 q2
        have hse2 := hse.add (x' := xk) (N + 8) (by omega) g2o g2S g29 g2t
        have hAm2 : Am g2 := hAm.ext (N := S) (fun q hq => g2o q (by omega) (by omega)) (by omega)
        generalize hG3 : lH (S + 1) ((n : Int) + 1) (n + 1) (fun i => if i = n then N + 8 else M i) g2 = g3 at *
        have hadd := jl_addS (b := b) (u := u1) (g := g2) (L := S + 1) (c := n) (n := n) (f := M) (x := N + 8) hAm2 (by omega) hb (by omega) (by rw [g2l]; exact zOb_md ((sH_out (by omega)).trans g29)) (fun i hi => by rw [g2l]; have := se6 i hi; exact zOb_md ((sH_out (by omega)).trans ((g2o _ this.2.1 (by omega)).trans this.2.2)))
        rw [g2l, hG3] at hadd
        have g3o : ∀ q, q < N → q ≠ S → (q < S + 1 ∨ S + 5 ≤ q) → g3 q = g q := fun q q1 q2 q3 => by rw [← hG3, lH_o (by omega)]; exact g2o q q1 q2
        have hAm3 : Am g3 := hAm.ext (N := S) (fun q hq => g3o q (by omega) (by omega) (by omega)) (by omega)
        have hsw := x3_swap (p := pn) (hor g3) (hrw g3) hn5 (by omega)
        rw [← e1, sH_rowF hm3 (by rw [e1]; exact hA.1), sPut_ex hn5, e1] at hsw
        have w0 : wRow u1 (sXc s m pn) 0 = sXc s m pn := wRow_0
        have wf : ∀ f, f ≠ 0 → wRow u1 (sXc s m pn) f = u1 f := fun f hf => wRow_f hf
        have hSOw : SO u (wRow u1 (sXc s m pn)) := so.tr SO.row
        have hBw : BkOk b (wRow u1 (sXc s m pn)) g3 := SO.row.bk (by rw [e1]; exact hA.2.2.2.2.2) (fun i hi => by rw [w0, e1]; exact sXc_lo (by omega) (by omega) (by omega)) (hBu g3 u1 e1 so g3o)
        have hsc := x2_isScheduled (b := b) (u := wRow u1 (sXc s m pn)) (g := g3) (a := 0) (bb := 500) (by decide) hb (by omega) (Or.inl (by rw [wf 5 (by decide), so.2.1]; exact h52)) (by rw [w0]; exact hxA) (by rw [w0]; exact hxO) hBw (by rw [wf 5 (by decide), so.2.1, h52]; omega) (by rw [wf 5 (by decide), so.2.2.1]; exact h53)
        rw [w0, wf 5 (by decide), so.2.1, h52] at hsc
        have c161 : ∀ (u2 : tW) (rd2 st2 : Nat → Int), SK (wRow u1 (sXc s m pn)) u2 → SR (sXc s m pn) (oB 0) (-1) (u1 5 3) rd2 st2 u2 → Tp (sXc s m pn) (oB 0) (-1) (u1 5 3) rd2 st2 → Tq (sXc s m pn) (oB 0) st2 → (∀ i : Nat, (i : Int) < sXc s m pn 1 → -1 ≤ st2 i ∧ st2 i ≤ 500 + 800) → ∀ env, zsub env [(0, .ref S)] → zW X Q (sH b u2 g3) 62 1225 161 env [.int (iI (bI (cntU st2 (sXc s m pn 1).toNat = 0)))] := by
          intro u2 rd2 st2 hK2 hR2 hT2 hQ2 hbd env he
          refine zW.cut he ?_
          obtain ⟨e20, -, -, -, e50, e52, e53⟩ := id hR2
          have hz : cntU st2 (sXc s m pn 1).toNat = 0 := hac.u0 hxA hxO hQ2
          have hmk2 : MkR (sXc s m pn) (oB 0) (mkS (sXc s m pn) st2) := ⟨rd2, st2, Tp.hu0 hT2, hQ2, rfl⟩
          have hv2 : u2 5 0 = v := by
            rw [i5.uniq hxA hxO hmk2, e50]
            unfold mkS
            rw [if_neg (by omega), gMx_all _ hz]
          have hgm1 := gMx_le (s := sXc s m pn) (st := st2) (B := 2000) (by omega) (sXc s m pn 1).toNat (fun i hi hs => by
            have := hbd i (by omega)
            have hdu : 1 ≤ sXc s m pn (82 + (i : Int)).toNat ∧ sXc s m pn (82 + (i : Int)).toNat ≤ 30 := (hxA.2.1.2 i (by omega) (by omega)).2.2.1
            omega)
          rw [← e50, hv2] at hgm1
          have hso2 : SO u u2 := hSOw.tr hK2.so
          have hSF2 := hR2.sf hz hbd (by omega)
          have hT2' : Tp (u2 0) (oB 0) (-1) 0 rd2 st2 := by rw [e20]; exact Tp.hu0 hT2
          have hQ2' : Tq (u2 0) (oB 0) st2 := by rw [e20]; exact hQ2
          have g3S : g3 S = some (.inr (10, seF b (S + 1) B xk)) := (by rw [← hG3]; exact lH_o (by omega) : g3 S = g2 S).trans g2S
          have hs4 : zup (sH b u2 g3) S (.inr (10, (seF b (S + 1) B xk).set 5 (.int (iI (xk 2 + 1))))) = sH b u2 (zup g3 S (.inr (10, seF b (S + 1) B (sup xk 2 (xk 2 + 1))))) := by rw [sH_upo (by omega)]; rfl
          have hrx4 : rX (sup xk 2 (xk 2 + 1)) := xr.sup (by omega)
          have x40 : sup xk 2 (xk 2 + 1) 0 = x 0 := (sup_n (by decide)).trans xe.1
          have x41 : sup xk 2 (xk 2 + 1) 1 = x 1 := (sup_n (by decide)).trans xe.2.1
          have x42 : sup xk 2 (xk 2 + 1) 2 = x 2 + 1 := by rw [sup_s, xe.2.2]
          generalize sup xk 2 (xk 2 + 1) = x4 at *
          generalize hG4 : zup g3 S (.inr (10, seF b (S + 1) B x4)) = g4 at *
          have g4S : g4 S = some (.inr (10, seF b (S + 1) B x4)) := by rw [← hG4]; exact zup_at _ _ _
          have g4o : ∀ q, q ≠ S → g4 q = g3 q := fun q hq => by rw [← hG4]; exact zup_ne hq
          have g4t : zTop g4 (N + 9) := fun q hq => (g4o q (by omega)).trans (hse2.2.2.1 q (by omega))
          have e179 : ∀ q, q < 4 → u2 0 (179 + q) = s (179 + q) := fun q hq => by rw [e20]; exact sXc_lo (by omega) (by omega) (by omega)
          have hse4 : seH b S B (N + 9) g4 (u2 0) bs x4 (n + 1) (fun i => if i = n then N + 8 else M i) (sup F n (sOr s m (pn + 1))) (sup G n (sOr s m pn)) := hse2.ext (fun q _ hq => g4o q hq) g4S g4t (by omega) e179
          have hAm4 : Am g4 := hAm3.ext (N := S) (fun q hq => g4o q (by omega)) (by omega)
          have g4b : ∀ q, q < S → g4 q = g q := fun q hq => (g4o q (by omega)).trans (g3o q (by omega) (by omega) (by omega))
          have hBk : ∀ g6 : zH, (∀ q, q < N + 9 → q ≠ S → g6 q = g3 q) → BkOk b u2 g6 := fun g6 h6 => (hK2.bk hBw).up fun q l hl => by
            have q1 : q < N + 9 := by
              rcases Nat.lt_or_ge q (N + 9) with z | z
              · exact z
              · rw [hse2.2.2.1 q (by omega)] at hl; cases hl
            have q2 : q ≠ S := fun z => by rw [z, g3S] at hl; injection hl with hl; injection hl with hl; injection hl with hl; omega
            rw [h6 q q1 q2]
            exact hl
          have finN : ¬ v < x 1 → Q (.inl (some (.int (iI 1)))) (sH b u2 g4) := fun hlt => hq1 _ ⟨u2, g4, x4, N + 9, B, _, m, pn, v, rd2, st2, rfl, by rw [hs, hln]; exact pkT2, ⟨hm3, hn5, by rw [hs]; exact p1⟩, by rw [hs]; exact e20, hso2, g4b, hSF2, hT2', hQ2', x40, by rw [if_neg hlt]; exact x41, x42, ⟨i6, hgm1⟩, hrx4, hBk g4 (fun q _ hq => g4o q hq), by rw [if_neg hlt, hs]; exact hse4⟩
          have hkp := x11_keep (S := S) (b := b) (L := S + 1) (v9 := .ref B) (N := N + 9) (u := u2) (g := g4) (x := x4) hb hSb (by omega) hAm4 g4t g4S
          have finY : v < x 1 → ∀ g5 : zH, fourO g5 (fun i => N + 9 + 4 + 2 * i) (fun i => N + 9 + 5 + 2 * i) (u2 0) (fun m q => u2 0 (183 + 5 * m + q)) → (∀ q, q < N + 9 → q ≠ S → g5 q = g4 q) → zTop g5 (N + 9 + 12) → Q (.inl (some (.int (iI 1)))) (sH b u2 (zup (lH (N + 9) 4 4 (fun i => N + 9 + 4 + 2 * i) g5) S (.inr (10, seF b (S + 1) (N + 9) (sup x4 1 (u2 5 0)))))) := fun hlt g5 f5 o5 t5 => hq1 _ ⟨u2, _, sup x4 1 (u2 5 0), N + 9 + 12, N + 9, _, m, pn, v, rd2, st2, rfl, by rw [hs, hln]; exact pkT2, ⟨hm3, hn5, by rw [hs]; exact p1⟩, by rw [hs]; exact e20, hso2, fun q hq => (zup_ne (by omega)).trans ((lH_o (by omega)).trans ((o5 q (by omega) (by omega)).trans (g4b q hq))), hSF2, hT2', hQ2', (sup_n (by decide)).trans x40, by rw [if_pos hlt, sup_s, hv2], (sup_n (by decide)).trans x42, ⟨i6, hgm1⟩, hrx4.sup (by omega), hBk _ (fun q q1 q2 => (zup_ne q2).trans ((lH_o (by omega)).trans ((o5 q (by omega) q2).trans (g4o q q2)))), by rw [if_pos hlt, hs]; exact hse4.keep o5 (by rw [e20] at f5; rw [e20]; exact f5) t5⟩
          rw [bI_t hz]
          refine z_istore_n K dX11_step_161 rfl (by decide) rfl ?_
          refine z_aload_n K dX11_step_162 rfl rfl rfl ?_
          refine z_dup K dX11_step_163 rfl ?_
          refine z_get K fd_X11_63_10 ((sH_out (by omega)).trans g3S) rfl dX11_step_164 ?_
          refine j_iconst K dX11_step_167 ?_
          refine j_iadd K dX11_step_168 ?_
          refine z_putE K fd_X11_63_10 ⟨_, rfl, Or.inl rfl⟩ ((sH_out (by omega)).trans g3S) (by omega) (Nat.le_of_ble_eq_true rfl) (zf_i) dX11_step_169 (hs4) ?_
          refine z_iload_n K dX11_step_172 rfl rfl ?_
          refine j_if_eq (tgt := 194) K dX11_step_173 rfl (by decide) (fun c_173 => ?_) (fun c_173 => ?_)
          · exact absurd c_173 (by decide)
          · refine z_aload_n K dX11_step_176 rfl rfl rfl ?_
            refine z_get K fd_X11_18_10 ((sH_out (by omega)).trans g4S) rfl dX11_step_177 ?_
            refine z_get K fd_X11_29_2 (sH_shop) rfl dX11_step_180 ?_
            rw [hv2]
            refine z_aload_n K dX11_step_183 rfl rfl rfl ?_
            refine z_get K fd_X11_34_10 ((sH_out (by omega)).trans g4S) rfl dX11_step_184 ?_
            rw [x41]
            refine j_icmp_ge (tgt := 194) K dX11_step_187 rfl (by omega) (by omega) (fun c_187 => ?_) (fun c_187 => ?_)
            · have fin := finN (by omega)
              refine z_iload_n K dX11_step_194 rfl rfl ?_
              exact z_zret K (iI_b (by decide)) (by omega) (by omega) (fin) dX11_step_195
            · have fy := finY (by omega)
              refine z_aload_n K dX11_step_190 rfl rfl rfl ?_
              refine z_callV K (hkp) cV_X11_26_X11 ((sH_out (by omega)).trans g4S) rfl rfl rfl (by omega) (by omega) (by omega) (Nat.le_of_ble_eq_true rfl) dX11_step_191 (fun _ _ ⟨_, e, _⟩ => nomatch e) ?_
              rintro _ _ ⟨g5, ez, rfl, f5, o5, t5⟩
              cases ez
              have fin := fy g5 f5 o5 t5
              refine z_iload_n K dX11_step_194 rfl rfl ?_
              exact z_zret K (iI_b (by decide)) (by omega) (by omega) (fin) dX11_step_195
        refine z_aload_n K dX11_step_78 rfl rfl rfl ?_
        refine z_get K fd_X11_95_10 (hGS) rfl dX11_step_79 ?_
        refine j_iconst K dX11_step_82 ?_
        refine j_icmp_ne (tgt := 88) K dX11_step_83 rfl (by exact xr3) (by omega) (fun c_83 => ?_) (fun c_83 => ?_)
        · refine z_aload_n K dX11_step_88 rfl rfl rfl ?_
          refine z_get K fd_X11_18_10 (hGS) rfl dX11_step_89 ?_
          refine z_get K fd_X11_66_2 (sH_shop) rfl dX11_step_92 ?_
          refine z_aload_n K dX11_step_95 rfl rfl rfl ?_
          refine z_get K fd_X11_95_10 (hGS) rfl dX11_step_96 ?_
          rw [hm]
          refine z_callV K (hgd) cV_X11_48_J2 (sH_ords) rfl rfl rfl (by omega) (by omega) (by omega) (Nat.le_of_ble_eq_true rfl) dX11_step_99 zrX (zrK ?_)
          refine z_castS K (hor _) rfl q1293 dX11_step_102 ?_
          refine z_astore_n K dX11_step_105 rfl rfl (by decide) rfl ?_
          refine z_aload_n K dX11_step_106 rfl rfl rfl ?_
          refine z_get K fd_X11_12_10 (hGS) rfl dX11_step_107 ?_
          refine z_new K (N + 8) nw_X11_52 ((sH_out (by omega)).trans ((zup_ne (by omega)).trans (g1t _ (by omega)))) (by omega) (by omega) (by omega) dX11_step_110 ?_
          refine z_dup K dX11_step_113 rfl ?_
          refine z_aload_n K dX11_step_114 rfl rfl rfl ?_
          refine z_get K fd_X11_115_3 ((zup_ne (by omega)).trans (hor _)) rfl dX11_step_115 ?_
          refine z_aload_n K dX11_step_118 rfl rfl rfl ?_
          refine z_get K fd_X11_102_10 ((zup_ne (by omega)).trans hGS) rfl dX11_step_119 ?_
          rw [hpn]
          refine j_iconst K dX11_step_122 ?_
          refine j_iadd K dX11_step_123 ?_
          refine j_ild K ((zup_ne (by omega)).trans (hrw _)) (by omega) (by omega) dX11_step_124 ?_
          refine z_aload_n K dX11_step_125 rfl rfl rfl ?_
          refine z_get K fd_X11_115_3 ((zup_ne (by omega)).trans (hor _)) rfl dX11_step_126 ?_
          refine z_aload_n K dX11_step_129 rfl rfl rfl ?_
          refine z_get K fd_X11_102_10 ((zup_ne (by omega)).trans hGS) rfl dX11_step_130 ?_
          rw [hpn]
          refine j_ild K ((zup_ne (by omega)).trans (hrw _)) (by omega) (by omega) dX11_step_133 ?_
          refine z_aload_n K dX11_step_134 rfl rfl rfl ?_
          refine z_get K fd_X11_63_10 ((zup_ne (by omega)).trans hGS) rfl dX11_step_135 ?_
          rw [show xk 2 = (n : Int) from xe.2.2.trans hx2]
          refine z_cI (fs := []) K (x12_init (zup_at _ _ _) (by omega)) cI_X11_119 rfl rfl (by omega) (by omega) (by omega) (Nat.le_of_ble_eq_true rfl) dX11_step_138 zvX (zvK ?_)
          refine zW.heap (show _ = sH b u1 g2 by rw [zup_zup, sH_upo (by omega), ← hG2, ← ef, ← eg]) ?_
          refine z_callV K (hadd) cV_X11_122_J2 (((sH_out (by omega)).trans ((g2o _ (by omega) (by omega)).trans hL0))) rfl rfl rfl (by omega) (by omega) (by omega) (Nat.le_of_ble_eq_true rfl) dX11_step_141 zrX (zrK ?_)
          refine z_pop K dX11_step_144 rfl ?_
          refine z_aload_n K dX11_step_145 rfl rfl rfl ?_
          refine z_aload_n K dX11_step_146 rfl rfl rfl ?_
          refine z_get K fd_X11_102_10 ((sH_out (by omega)).trans ((by rw [← hG3]; exact lH_o (by omega) : g3 S = g2 S).trans g2S)) rfl dX11_step_147 ?_
          rw [hpn]
          refine z_callV K (hsw) cV_X11_83_X3 (hor _) rfl rfl rfl (by omega) (by omega) (by omega) (Nat.le_of_ble_eq_true rfl) dX11_step_150 zvX (zvK ?_)
          refine z_aload_n K dX11_step_153 rfl rfl rfl ?_
          refine z_get K fd_X11_18_10 ((sH_out (by omega)).trans ((by rw [← hG3]; exact lH_o (by omega) : g3 S = g2 S).trans g2S)) rfl dX11_step_154 ?_
          refine j_iconst K dX11_step_157 ?_
          refine z_callV K (hsc) cV_X11_87_X2 (sH_shop) rfl rfl rfl (by omega) (by omega) (by omega) (Nat.le_of_ble_eq_true rfl) dX11_step_158 (fun _ _ ⟨_, _, _, e, _⟩ => nomatch e) ?_
          rintro _ _ ⟨u2, rd2, st2, ez, rfl, hK2, hR2, hT2, hQ2, hbd⟩
          cases ez
          exact c161 u2 rd2 st2 hK2 hR2 hT2 hQ2 hbd _ ⟨rfl, trivial⟩
        · exact absurd c_83 pk3
    have loop : ∀ (r j : Nat), j + 1 + r = max 1 len → ∀ (u1 : tW) (xk : Nat → Int), u1 0 = s → SO u u1 → pckX s (oB 0) rd st (fbL (laN F G n) n (x 0)) (x 1) (j + 1) xk → (xk 0 = x 0 ∧ xk 1 = x 1 ∧ xk 2 = x 2) → rX xk → ∀ env, zsub env [(0, .ref S), (1, .ref (N + 4)), (2, .int (iI (j + 1)))] → zW X Q (sH b u1 (zup g1 S (.inr (10, seF b (S + 1) B xk)))) 60 1200 15 env [] := by
      intro r
      induction r with
      | zero =>
        intro j hj u1 xk e1 so pk xe xr env he
        refine zW.cut he ?_
        have nx := c78 u1 xk e1 so (by
          by_cases q : j + 1 = len
          · rw [← q]; exact pk
          · have q0 : len = 0 := by omega
            have q1 : j = 0 := by omega
            subst q1
            rw [q0]
            rcases pk with ⟨p1, -⟩ | ⟨-, ⟨i, hi, -⟩, -⟩
            · exact Or.inl ⟨p1, fun m p v ⟨i, hi, _⟩ => by omega⟩
            · omega) xe xr
        clear c78
        have hsz := jl_size (h := sH b u1 (zup g1 S (.inr (10, seF b (S + 1) B xk)))) (L := N + 4) ((sH_out (by omega)).trans ((zup_ne (by omega)).trans hP0))
        refine z_iload_n K dX11_step_15 rfl rfl ?_
        refine z_aload_n K dX11_step_16 rfl rfl rfl ?_
        refine z_callV K (hsz) cV_X11_44_J2 ((sH_out (by omega)).trans ((zup_ne (by omega)).trans hP0)) rfl rfl rfl (by omega) (by omega) (by omega) (Nat.le_of_ble_eq_true rfl) dX11_step_17 zrX (zrK ?_)
        refine j_icmp_ge (tgt := 78) K dX11_step_20 rfl (by omega) (by omega) (fun c_20 => ?_) (fun c_20 => ?_)
        · exact nx _ ⟨rfl, trivial⟩
        · exact absurd c_20 (by omega)
      | succ r ih =>
        intro j hj u1 xk e1 so pk xe xr env he
        refine zW.cut he ?_
        have hlt : j + 1 < len := by omega
        obtain ⟨N8, n81, n82, n83⟩ := hPa (by omega)
        have hPA := hPA (by omega)
        generalize hhc : sH b u1 (zup g1 S (.inr (10, seF b (S + 1) B xk))) = hc
        have hPl : hc (N + 4) = some (oL c (lA (N + 4) len) len) := by rw [← hhc]; exact (sH_out (by omega)).trans ((zup_ne (by omega)).trans hP0)
        have hPb : hc (lA (N + 4) len) = some (aR N8 len (fun i => b + 52 + (pthF s (oB 0) rd st i).toNat)) := by rw [← hhc]; exact (sH_out (by omega)).trans ((zup_ne (by omega)).trans n81)
        have hsz := jl_size hPl
        have hg1 : zG2 (N + 4) ((j : Int) + 1 - 1) hc (b + 52 + (pthF s (oB 0) rd st j).toNat) := by
          have := jl_get (i := (j : Int) + 1 - 1) hPl hPb n82 (by omega) (by omega) (by omega) rfl
          rw [show ((j : Int) + 1 - 1).toNat = j by omega] at this
          exact this
        have hg2 : zG2 (N + 4) ((j : Int) + 1) hc (b + 52 + (pthF s (oB 0) rd st (j + 1)).toNat) := by
          have := jl_get (i := (j : Int) + 1) hPl hPb n82 (by omega) (by omega) (by omega) rfl
          rw [show ((j : Int) + 1).toNat = j + 1 by omega] at this
          exact this
        have pr1 := hpr j (by omega)
        have pr2 := hpr (j + 1) hlt
        have hoa := opk u1 (zup g1 S (.inr (10, seF b (S + 1) B xk))) e1 _ pr1
        rw [hhc] at hoa
        have hob := opk u1 (zup g1 S (.inr (10, seF b (S + 1) B xk))) e1 _ pr2
        rw [hhc] at hob
        have mr1 := (hA.2.1.2 _ pr1.1 pr1.2).2.1
        have mr2 := (hA.2.1.2 _ pr2.1 pr2.2).2.1
        have hno : sMc s (pthF s (oB 0) rd st j) ≠ sMc s (pthF s (oB 0) rd st (j + 1)) → ∀ env, zsub env [(0, .ref S), (1, .ref (N + 4)), (2, .int (iI ((j : Int) + 1 + 1)))] → zW X Q hc 60 1200 15 env [] := fun hne => by
          rw [← hhc]
          exact ih (j + 1) (by omega) u1 xk e1 so (pk.skip hne) xe xr
        have hyes : sMc s (pthF s (oB 0) rd st j) = sMc s (pthF s (oB 0) rd st (j + 1)) → zMet yX11_tryPair (ws_ yX11_tryPair cX11_tryPair 7 none) 7 [.ref S, .ref (b + 52 + (pthF s (oB 0) rd st j).toNat), .ref (b + 52 + (pthF s (oB 0) rd st (j + 1)).toNat)] hc (fun z h' => z = .inl none ∧ ∀ env, zsub env [(0, .ref S), (1, .ref (N + 4)), (2, .int (iI ((j : Int) + 1 + 1)))] → zW X Q h' 60 1200 15 env []) 0 0 := fun heq => by
          obtain ⟨p, p0, p1, p2, p3, p4, p5⟩ := pthF_adj hA hO (by rw [hln]; exact hlt) pr2 heq
          obtain ⟨m, hm⟩ := Int.eq_ofNat_of_zero_le mr1.1
          obtain ⟨pn, hpn⟩ := Int.eq_ofNat_of_zero_le p0
          subst hpn
          rw [hm] at p1 p4 p5
          have hm3 : m ≤ 3 := by omega
          have on := (hO m (by omega) (by omega)).1
          obtain ⟨nn, hnn⟩ := Int.eq_ofNat_of_zero_le on.1
          have htp := x11_tryPair (S := S) (b := b) (L := S + 1) (B := B) (u := u1) (g := zup g1 S (.inr (10, seF b (S + 1) B xk))) (x := xk) (c9 := n) (a9 := lA (S + 1) n) (N9 := N9) (n9 := n) (M := M) (F := F) (G := G) (T := fun i => i) (m := m) (p := pn) (n := nn) (a := pthF s (oB 0) rd st j) (c := pthF s (oB 0) rd st (j + 1)) hb hSb (zup_at _ _ _) (by omega) ((hgo _ _ (by omega) (by omega)).trans hL0) (fun q => by have := hlA q; omega) (fun q => (hgo _ _ (by have := hlA q; omega) (by have := hlA q; omega)).trans (n91 q)) n92 (by omega) (fun i hi => by have := se6 i hi; omega) (fun i hi => by have := se6 i hi; exact (hgo _ _ this.2.1 (by omega)).trans this.2.2) (fun i hi => by have := hrF i hi; omega) (by omega) (by omega) xr (by rw [e1]; exact hA) (by rw [e1]; exact hO) (hBu _ u1 e1 so (fun q q1 q2 _ => hgo _ _ q1 q2)) (by rw [so.2.1]; exact h52) (by rw [so.2.2.1]; exact h53) hm3 (by rw [e1]; exact hnn) (by omega) (by rw [e1]; exact (congrArg s (by omega)).trans p4) (by rw [e1]; exact (congrArg s (by omega)).trans p5)
          rw [hhc] at htp
          refine htp.weaken ?_
          rintro z h' ⟨u', v, rfl, rfl, mk, e0, so', v1, v2⟩
          refine ⟨rfl, ?_⟩
          rw [zup_zup]
          rw [e1] at mk e0
          have hxc := sXc_A (m := m) (p := pn) (by omega) (by omega) hA
          have hxo := sXc_O (m := m) (p := pn) hA hO (by omega) (by omega)
          refine ih (j + 1) (by omega) u' _ e0 (so.tr so') (pk.try hA hO xe.2.1 hm (heq.symm.trans hm) p2 mk ⟨hxc, hxo⟩ (by omega) ?_) ⟨(tryX_k (by omega)).trans xe.1, (tryX_k (by omega)).trans xe.2.1, (tryX_k (by omega)).trans xe.2.2⟩ (xr.try (by omega) (by omega) ⟨v1, v2⟩)
          have hf1 := fbN_la (F := F) (G := G) (T := fun i => (i : Int)) (a := pthF s (oB 0) rd st j) (c := pthF s (oB 0) rd st (j + 1)) (d := xk 2 - xk 0) n (fun i _ => rfl)
          have hf0 := fbN_r F G (fun i => (i : Int)) (pthF s (oB 0) rd st (j + 1)) (pthF s (oB 0) rd st j) (xk 2 - xk 0) n
          unfold fbL
          constructor
          · intro q z
            have := hf1.mpr (by omega)
            omega
          · intro q
            rcases hf0 with z | z
            · exact z
            · exact absurd (by have := hf1.mp z; omega) q
        clear ih
        refine z_iload_n K dX11_step_15 rfl rfl ?_
        refine z_aload_n K dX11_step_16 rfl rfl rfl ?_
        refine z_callV K (hsz) cV_X11_44_J2 (hPl) rfl rfl rfl (by omega) (by omega) (by omega) (Nat.le_of_ble_eq_true rfl) dX11_step_17 zrX (zrK ?_)
        refine j_icmp_ge (tgt := 78) K dX11_step_20 rfl (by omega) (by omega) (fun c_20 => ?_) (fun c_20 => ?_)
        · exact absurd c_20 (by omega)
        · refine z_aload_n K dX11_step_23 rfl rfl rfl ?_
          refine z_iload_n K dX11_step_24 rfl rfl ?_
          refine j_iconst K dX11_step_25 ?_
          refine j_isub K dX11_step_26 ?_
          refine z_callV K (hg1) cV_X11_48_J2 (hPl) rfl rfl rfl (by omega) (by omega) (by omega) (Nat.le_of_ble_eq_true rfl) dX11_step_27 zrX (zrK ?_)
          refine z_castS K (hoa) rfl q1288 dX11_step_30 ?_
          refine z_get K fd_X11_69_5 (hoa) rfl dX11_step_33 ?_
          refine z_aload_n K dX11_step_36 rfl rfl rfl ?_
          refine z_iload_n K dX11_step_37 rfl rfl ?_
          refine z_callV K (hg2) cV_X11_48_J2 (hPl) rfl rfl rfl (by omega) (by omega) (by omega) (Nat.le_of_ble_eq_true rfl) dX11_step_38 zrX (zrK ?_)
          refine z_castS K (hob) rfl q1288 dX11_step_41 ?_
          refine z_get K fd_X11_69_5 (hob) rfl dX11_step_44 ?_
          refine j_icmp_ne (tgt := 72) K dX11_step_47 rfl (by have q : 0 ≤ s (62 + pthF s (oB 0) rd st j).toNat ∧ s (62 + pthF s (oB 0) rd st j).toNat ≤ 3 := mr1; omega) (by have q : 0 ≤ s (62 + pthF s (oB 0) rd st (j + 1)).toNat ∧ s (62 + pthF s (oB 0) rd st (j + 1)).toNat ≤ 3 := mr2; omega) (fun c_47 => ?_) (fun c_47 => ?_)
          · have zz := hno c_47
            refine j_iinc K dX11_step_72 rfl (by decide) rfl ?_
            refine z_goto (tgt := 15) K dX11_step_75 rfl ?_
            exact zz _ ⟨rfl, rfl, rfl, trivial⟩
          · have htp := hyes c_47
            refine z_aload_n K dX11_step_50 rfl rfl rfl ?_
            refine z_aload_n K dX11_step_51 rfl rfl rfl ?_
            refine z_iload_n K dX11_step_52 rfl rfl ?_
            refine j_iconst K dX11_step_53 ?_
            refine j_isub K dX11_step_54 ?_
            refine z_callV K (hg1) cV_X11_48_J2 (hPl) rfl rfl rfl (by omega) (by omega) (by omega) (Nat.le_of_ble_eq_true rfl) dX11_step_55 zrX (zrK ?_)
            refine z_castS K (hoa) rfl q1288 dX11_step_58 ?_
            refine z_aload_n K dX11_step_61 rfl rfl rfl ?_
            refine z_iload_n K dX11_step_62 rfl rfl ?_
            refine z_callV K (hg2) cV_X11_48_J2 (hPl) rfl rfl rfl (by omega) (by omega) (by omega) (Nat.le_of_ble_eq_true rfl) dX11_step_63 zrX (zrK ?_)
            refine z_castS K (hob) rfl q1288 dX11_step_66 ?_
            refine z_callV K (htp) cV_X11_111_X11 ((by rw [← hhc]; exact (sH_out (by omega)).trans (zup_at _ _ _))) rfl rfl rfl (by omega) (by omega) (by omega) (Nat.le_of_ble_eq_true rfl) dX11_step_69 (fun _ _ ⟨e, _⟩ => nomatch e) ?_
            rintro _ _ ⟨ez, zz⟩
            cases ez
            refine j_iinc K dX11_step_72 rfl (by decide) rfl ?_
            refine z_goto (tgt := 15) K dX11_step_75 rfl ?_
            exact zz _ ⟨rfl, rfl, rfl, trivial⟩
    have go := loop (max 1 len - 1) 0 (by omega) u (sup x 3 (-1)) hs SO.rf (Or.inl ⟨sup_s, fun m p v ⟨i, hi, _⟩ => by omega⟩) ⟨sup_n (by decide), sup_n (by decide), sup_n (by decide)⟩ (hxr.sup (by omega))
    have go : ∀ env, zsub env [(0, .ref S), (1, .ref (N + 4)), (2, .int (iI 1))] → zW X Q (sH b u (zup g1 S (.inr (10, seF b (S + 1) B (sup x 3 (-1)))))) 60 1200 15 env [] := go
    clear loop c78
    refine zW.cut he ?_
    refine z_astore_n K dX11_step_7 rfl rfl (by decide) rfl ?_
    refine z_aload_n K dX11_step_8 rfl rfl rfl ?_
    refine j_iconst K dX11_step_9 ?_
    refine z_putE K fd_X11_95_10 ⟨_, rfl, Or.inl rfl⟩ ((sH_out (by omega)).trans ((g1o _ (by omega)).trans se4)) (by omega) (Nat.le_of_ble_eq_true rfl) (zf_i) dX11_step_10 (sH_upo (by omega)) ?_
    refine j_iconst K dX11_step_13 ?_
    refine z_istore_n K dX11_step_14 rfl (by decide) rfl ?_
    exact go _ ⟨rfl, rfl, rfl, trivial⟩
  refine z_aload_n K dX11_step_0 rfl rfl rfl ?_
  refine z_get K fd_X11_18_10 ((sH_out (by omega)).trans se4) rfl dX11_step_1 ?_
  refine z_callV K (hpath) cV_X11_108_X2 (sH_shop) rfl rfl rfl (by omega) (by omega) (by omega) (Nat.le_of_ble_eq_true rfl) dX11_step_4 (fun _ _ ⟨_, _, e, _⟩ => nomatch e) ?_
  rintro _ _ ⟨c, g', ez, rfl, hx, ht, hl20, hpr⟩
  cases ez
  exact c8 c g' hx ht hl20 hpr _ ⟨rfl, trivial⟩
end XSt

