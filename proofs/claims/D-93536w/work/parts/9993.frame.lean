/-! ===== the frame: the reference's contracts beside other cells ===== -/
def zle (r r' : zR) : Prop := ∀ n a, r n = some a → r' n = some a
theorem zv.le {r r' : zR} (h : zle r r') {v w : Value} (hv : zv r v w) : zv r' v w := by
  cases v with
  | ref n => obtain ⟨a, h1, h2⟩ := hv; exact ⟨a, h _ _ h1, h2⟩
  | _ => exact hv
theorem zvs.le {r r' : zR} (h : zle r r') : ∀ {l m : List Value}, zvs r l m → zvs r' l m
  | [], _, q => q
  | _ :: _, _, ⟨w, m', e, a, b⟩ => ⟨w, m', e, a.le h, zvs.le h b⟩
theorem zrf.le {r r' : zR} (h : zle r r') {f g : Nat → Option Nat} (q : zrf r f g) : zrf r' f g := by
  intro j
  have q := q j
  cases hf : f j with
  | none => rw [hf] at q; exact q
  | some n =>
    rw [hf] at q
    obtain ⟨a, h1, h2⟩ := q
    exact ⟨a, h _ _ h1, h2⟩
theorem zc.le {D : va_G} {dA : Nat → ClassId} {r r' : zR} (h : zle r r') {c : zC} {a : Nat} {H : Heap} (q : zc D dA r c a H) : zc D dA r' c a H := by
  match c, q with
  | .inr (ci, fs), q =>
    rcases q with q | ⟨fs', h1, h2, h3⟩
    · exact Or.inl q
    · exact Or.inr ⟨fs', h1.le h, h2, h3⟩
  | .inl (ty, n, .inr (.inr (.inr (.inr f)))), ⟨g, h1, h2⟩ => exact ⟨g, h1.le h, h2⟩
  | .inl (ty, n, .inl f), q => exact q
  | .inl (ty, n, .inr (.inl f)), q => exact q
  | .inl (ty, n, .inr (.inr (.inl f))), q => exact q
  | .inl (ty, n, .inr (.inr (.inr (.inl f)))), q => exact q
theorem ov_in {w : tW} {h : zH} {m : Nat} (h1 : 1000 ≤ m) (h2 : m < 1038) : ov w h m = tH w m := if_pos ⟨h1, h2⟩
theorem ov_out {w : tW} {h : zH} {m : Nat} (h1 : m < 1000 ∨ 1038 ≤ m) : ov w h m = h m := if_neg (by omega)
theorem tH_out {w : tW} {m : Nat} (h1 : m < 1000 ∨ 1038 ≤ m) : tH w m = none := by
  unfold tH
  rw [if_neg (by omega), if_neg]
  rintro ⟨a, b⟩
  have := tlen_lt b
  omega
theorem znr_any {r r' : zR} : ∀ {l m : List Value}, znr l = true → zvs r l m → zvs r' l m
  | [], _, _, q => q
  | .ref _ :: _, _, hz, _ => by cases hz
  | .int _ :: _, _, hz, ⟨w9, m9, q1, q2, q3⟩ => ⟨w9, m9, q1, q2, znr_any hz q3⟩
  | .long _ :: _, _, hz, ⟨w9, m9, q1, q2, q3⟩ => ⟨w9, m9, q1, q2, znr_any hz q3⟩
  | .float _ :: _, _, hz, ⟨w9, m9, q1, q2, q3⟩ => ⟨w9, m9, q1, q2, znr_any hz q3⟩
  | .double _ :: _, _, hz, ⟨w9, m9, q1, q2, q3⟩ => ⟨w9, m9, q1, q2, znr_any hz q3⟩
  | .null :: _, _, hz, ⟨w9, m9, q1, q2, q3⟩ => ⟨w9, m9, q1, q2, znr_any hz q3⟩
  | .retAddr _ :: _, _, hz, ⟨w9, m9, q1, q2, q3⟩ => ⟨w9, m9, q1, q2, znr_any hz q3⟩
theorem zvs.of {r r' : zR} : ∀ {l m : List Value}, (∀ n, .ref n ∈ l → ∀ a, r n = some a → r' n = some a) → zvs r l m → zvs r' l m
  | [], _, _, q => q
  | v :: l, _, h, ⟨w, m', e, a, b⟩ => ⟨w, m', e, by
      cases v with
      | ref n => obtain ⟨a3, h1, h2⟩ := a; exact ⟨a3, h n List.mem_cons_self a3 h1, h2⟩
      | _ => exact a, zvs.of (fun n hn => h n (List.mem_cons_of_mem _ hn)) b⟩
theorem tF_ref {w : tW} {n : Nat} (h : Value.ref n ∈ tF w) : 1000 ≤ n ∧ n < 1038 := by
  have key : ∀ f, f < 37 → Value.ref n = tfv w f → 1000 ≤ n ∧ n < 1038 := fun f hf e => by
    unfold tfv at e
    cases hb : Nat.beq (tlen f) 0 with
    | true => rw [hb] at e; cases e
    | false =>
      rw [hb] at e
      have e : Value.ref n = .ref (1001 + f) := e
      injection e with e
      have e : @Eq Nat n (1001 + f) := e
      omega
  unfold tF at h
  simp only [List.mem_cons, List.not_mem_nil, or_false] at h
  rcases h with h | h | h | h | h | h | h | h | h | h | h | h | h | h | h | h | h | h | h | h | h | h | h | h | h | h | h | h | h | h | h | h | h | h | h | h | h <;> exact key _ (by decide) h
theorem tH_zc {D : va_G} {dA : Nat → ClassId} {r r' : zR} {w : tW} {n a : Nat} {c : zC} {H : Heap} (hc : tH w n = some c) (hr : ∀ n, 1000 ≤ n → n < 1038 → ∀ a, r n = some a → r' n = some a) (hz : zc D dA r c a H) : zc D dA r' c a H := by
  unfold tH at hc
  split at hc
  · cases hc
    rcases hz with q | ⟨fs', h1, h2, h3⟩
    · exact Or.inl q
    · exact Or.inr ⟨fs', zvs.of (fun n hn a ha => by have := tF_ref hn; exact hr n this.1 this.2 a ha) h1, h2, h3⟩
  · split at hc
    · cases hc
      exact hz
    · cases hc
theorem zMet.besides {y : MethodName} {ws : List Cond} {d : Nat} {as : List Value} {w : tW} {Q : zO → zH → Prop} (hM : zMet y ws d (.ref 1000 :: as) (tH w) Q 0 0) (has0 : znr as = true) (hQ : ∀ z h', Q z h' → ∃ v w', z = .inl v ∧ h' = tH w') (h : zH) : zMet y ws d (.ref 1000 :: as) (ov w h) (fun z h' => ∃ w', h' = ov w' h ∧ Q z (tH w')) 0 0 := by
  intro l D dA r0 A as' hfl has
  obtain ⟨a0, m', gr, rfl, has2⟩ := zvs_r has
  have hr1 : ∀ r : zR, r 1000 = some a0 → zvs r (.ref 1000 :: as) (.ref a0 :: m') := fun r e => zvs.r e (znr_any has0 has2)
  let r1 : zR := fun m => if 1000 ≤ m ∧ m < 1038 then r0 m else none
  let A1 : Nat → Prop := fun a => A a ∧ ∀ n, 1038 ≤ n → r0 n ≠ some a
  have hA1 : ∀ q, A1 q → A q := fun q z => z.1
  have r1i : ∀ m, 1000 ≤ m → m < 1038 → r1 m = r0 m := fun m h1 h2 => if_pos ⟨h1, h2⟩
  have r1o : ∀ m, (m < 1000 ∨ 1038 ≤ m) → r1 m = none := fun m h1 => if_neg (by omega)
  refine (hM l D dA r1 A1 (.ref a0 :: m') hfl (hr1 r1 ((r1i 1000 (by decide) (by decide)).trans gr))).mono ?_ (fun _ _ _ _ _ z => z) ?_
  · rintro a s ⟨h1, hS, hA, hA0, hK, hN, hNc, hG⟩
    refine ⟨h1, ⟨fun n => ?_, fun n m a hn hm h8 hd => ?_, fun n a hn => ?_, fun n c a hc hn => ?_⟩, ⟨fun n a h8 hn => ?_, fun n a h8 _ hn => ?_⟩, fun q hq => ⟨hA0 q hq, fun n _ e => ?_⟩, hK, hN, hNc, ?_⟩
    · by_cases e : 1000 ≤ n ∧ n < 1038
      · rw [r1i n e.1 e.2, ← hS.1 n, ov_in e.1 e.2]
      · rw [r1o n (by omega), tH_out (by omega)]; simp
    · have e1 : 1000 ≤ n ∧ n < 1038 := Classical.byContradiction fun q => by rw [r1o n (by omega)] at hn; cases hn
      have e2 : 1000 ≤ m ∧ m < 1038 := Classical.byContradiction fun q => by rw [r1o m (by omega)] at hm; cases hm
      rw [r1i n e1.1 e1.2] at hn
      rw [r1i m e2.1 e2.2] at hm
      exact hS.2.1 n m a hn hm h8 hd
    · have e1 : 1000 ≤ n ∧ n < 1038 := Classical.byContradiction fun q => by rw [r1o n (by omega)] at hn; cases hn
      rw [r1i n e1.1 e1.2] at hn
      exact Or.inl ⟨Or.inr (by omega), hS.lt hn (Or.inr (by omega))⟩
    · have e1 : 1000 ≤ n ∧ n < 1038 := Classical.byContradiction fun q => by rw [r1o n (by omega)] at hn; cases hn
      rw [r1i n e1.1 e1.2] at hn
      have hz := hS.at (show ov w h n = some c by rw [ov_in e1.1 e1.2]; exact hc) hn (Or.inr e1.1)
      exact Or.inl (tH_zc hc (fun n h1 h2 a ha => (r1i n h1 h2).trans ha) hz)
    · have e1 : 1000 ≤ n ∧ n < 1038 := Classical.byContradiction fun q => by rw [r1o n (by omega)] at hn; cases hn
      rw [r1i n e1.1 e1.2] at hn
      refine ⟨hA.1 n a h8 hn, fun n2 h2 e => ?_⟩
      have := hS.2.1 n n2 a hn e h8 (Or.inr (by omega))
      omega
    · rw [r1o n (by omega)] at hn; cases hn
    · have := hS.lt e (Or.inr (by omega))
      omega
    · obtain ⟨g1, g2, ad, g3, g4, g5, g6⟩ := hG
      refine ⟨fun q hq => ?_, fun a ha => ?_, ad, fun a ha => ?_, fun k a hk ha => ?_, g5.narrow hA1, g6.narrow hA1⟩
      · obtain ⟨w9, q1, q2⟩ := g1 q hq
        refine ⟨w9, q1.narrow hA1, ?_⟩
        have hz := zst_lt q hq
        revert q2 hz
        cases q.2.2.2 with
        | ref n =>
          intro q2 hz
          have h9 : @LT.lt Nat instLTNat n 900 := hz n rfl
          exact ⟨fun a ha => (by rw [r1o n (by omega)] at ha; cases ha), fun ha => absurd (r1o (n + 20) (by omega)) ha⟩
        | _ => intro q2 _; exact q2
      · rw [r1o 7 (by omega)] at ha; cases ha
      · rw [r1o 6 (by omega)] at ha; cases ha
      · rw [r1o (300 + k) (by omega)] at ha; cases ha
  · rintro a s o t ⟨h1, hS, hA, hA0, hK, hN, hNc, hG⟩ hp
    rcases hp with ⟨v, v', r', h', ho, hv, hq, hsb, hS', hA', hF, L, hL1, hL2⟩ | ⟨n, q, r', h', E, ce, L, ho, hn, hq, -⟩
    · obtain ⟨v9, w', -, rfl⟩ := hQ _ _ hq
      let r2 : zR := fun m => if 1000 ≤ m ∧ m < 1038 then r' m else r0 m
      have r2i : ∀ m, 1000 ≤ m → m < 1038 → r2 m = r' m := fun m h1 h2 => if_pos ⟨h1, h2⟩
      have r2o : ∀ m, (m < 1000 ∨ 1038 ≤ m) → r2 m = r0 m := fun m h1 => if_neg (by omega)
      have dom : ∀ m a, r' m = some a → 1000 ≤ m ∧ m < 1038 := fun m a e => Classical.byContradiction fun q => by
        have := (hS'.1 m).mp (tH_out (by omega))
        rw [this] at e
        cases e
      have le2 : zle r' r2 := fun m a e => by have := dom m a e; rw [r2i m this.1 this.2]; exact e
      have le0 : zle r0 r2 := fun m a e => by
        by_cases q : 1000 ≤ m ∧ m < 1038
        · rw [r2i m q.1 q.2]
          exact (hsb m a).1 ((r1i m q.1 q.2).trans e)
        · rw [r2o m (by omega)]; exact e
      have cls : ∀ n m a, 1000 ≤ n → n < 1038 → (m < 1000 ∨ 1038 ≤ m) → (m < 3 ∨ 8 < m) → r' n = some a → r0 m = some a → False := fun n m a n1 n2 m1 md en em => by
        have h9 := hA'.1 n a n1 en
        rcases m1 with m1 | m1
        · exact hA.2 m a m1 md em h9.1
        · exact h9.2 m m1 em
      refine Or.inl ⟨v, v', r2, ov w' h, ho, ?_, ⟨w', rfl, hq⟩, fun m a => ⟨le0 m a, fun m1 e => by rw [r2o m (by omega)] at e; exact e⟩, ⟨fun m => ?_, fun n m a en em n8 hd => ?_, fun n a en => ?_, fun n c a ec en => ?_⟩, ⟨fun n a n8 en => ?_, fun n a n8 hd en => ?_⟩, ⟨hF.1, fun q h2 h3 => hF.2 q h2 (fun z => h3 z.1)⟩, L, hL1, fun q hq => (hL2 q hq).1⟩
      · cases v with
        | none => exact hv
        | some x => obtain ⟨x', e1, e2⟩ := hv; exact ⟨x', e1, e2.le le2⟩
      · by_cases q : 1000 ≤ m ∧ m < 1038
        · rw [r2i m q.1 q.2, ov_in q.1 q.2]; exact hS'.1 m
        · rw [r2o m (by omega), ov_out (by omega)]
          have := hS.1 m
          rw [ov_out (by omega)] at this
          exact this
      · by_cases q1 : 1000 ≤ n ∧ n < 1038
        · rw [r2i n q1.1 q1.2] at en
          by_cases q2 : 1000 ≤ m ∧ m < 1038
          · rw [r2i m q2.1 q2.2] at em
            exact hS'.2.1 n m a en em n8 hd
          · rw [r2o m (by omega)] at em
            exact (cls n m a q1.1 q1.2 (by omega) hd en em).elim
        · rw [r2o n (by omega)] at en
          by_cases q2 : 1000 ≤ m ∧ m < 1038
          · rw [r2i m q2.1 q2.2] at em
            exact (cls m n a q2.1 q2.2 (by omega) (by omega) em en).elim
          · rw [r2o m (by omega)] at em
            exact hS.2.1 n m a en em n8 hd
      · by_cases q1 : 1000 ≤ n ∧ n < 1038
        · rw [r2i n q1.1 q1.2] at en
          exact Or.inl ⟨Or.inr (by omega), hS'.lt en (Or.inr (by omega))⟩
        · rw [r2o n (by omega)] at en
          rcases hS.2.2.1 n a en with q | q
          · exact Or.inl ⟨q.1, by have := hF.1; have := q.2; omega⟩
          · exact Or.inr ⟨q.1, (ov_out (by omega)).trans ((ov_out (by omega)).symm.trans q.2)⟩
      · by_cases q1 : 1000 ≤ n ∧ n < 1038
        · rw [r2i n q1.1 q1.2] at en
          rw [ov_in q1.1 q1.2] at ec
          exact Or.inl ((hS'.at ec en (Or.inr q1.1)).le le2)
        · rw [r2o n (by omega)] at en
          rw [ov_out (by omega)] at ec
          by_cases hd : n < 3 ∨ 8 < n
          rotate_left
          · exact Or.inl (zc.tri (hS.tri (show ov w h n = some c by rw [ov_out (by omega)]; exact ec) en hd))
          have hkp := hF.2 a (hS.lt en hd) (fun z => ?_)
          · exact (hS.2.2.2 n c a (show ov w h n = some c by rw [ov_out (by omega)]; exact ec) en).imp (fun hz => (hz.kept hkp).le le0) (fun hz => ⟨hz.1, hz.2.kept hkp⟩)
          rcases (by omega : n < 1000 ∨ 1038 ≤ n) with q | q
          · exact hA.2 n a q hd en z.1
          · exact z.2 n q en
      · by_cases q1 : 1000 ≤ n ∧ n < 1038
        · rw [r2i n q1.1 q1.2] at en
          exact (hA'.1 n a n8 en).1
        · rw [r2o n (by omega)] at en
          exact hA.1 n a n8 en
      · rw [r2o n (by omega)] at en
        exact hA.2 n a n8 hd en
    · obtain ⟨v9, w', e, -⟩ := hQ _ _ hq
      cases e
theorem ov_cg {w w' : tW} {h : zH} (e : tH w = tH w') : ov w h = ov w' h := by
  unfold ov
  rw [e]
/-- .. with a whole number -/
theorem tMi.bs {y : MethodName} {cc : ByteArray} {nL : Nat} {rt : FieldType} {d : Nat} {as : List Value} {w : tW} {P : Int → tW → Prop} (hM : tMi y cc nL rt d as w P) (has0 : znr as = true) (h : zH) : zMet y (ws_ y cc nL (some rt)) d (.ref 1000 :: as) (ov w h) (fun z h' => ∃ v w', z = .inl (some (.int (iI v))) ∧ h' = ov w' h ∧ P v w') 0 0 :=
  (zMet.besides hM has0 (fun z h' ⟨x, e, v, w', e2, e3, _⟩ => ⟨_, w', e, e3⟩) h).weaken fun z h' ⟨w', e, x, e1, v, w2, e2, e3, hP⟩ => ⟨v, w2, by rw [e1, e2], by rw [e]; exact ov_cg e3, hP⟩
theorem tMv.bs {y : MethodName} {cc : ByteArray} {nL : Nat} {d : Nat} {as : List Value} {w : tW} {P : tW → Prop} (hM : tMv y cc nL d as w P) (has0 : znr as = true) (h : zH) : zMet y (ws_ y cc nL none) d (.ref 1000 :: as) (ov w h) (fun z h' => ∃ w', z = .inl none ∧ h' = ov w' h ∧ P w') 0 0 :=
  (zMet.besides hM has0 (fun z h' ⟨e, w', e3, _⟩ => ⟨_, w', e, e3⟩) h).weaken fun z h' ⟨w', e, e1, w2, e3, hP⟩ => ⟨w2, e1, by rw [e]; exact ov_cg e3, hP⟩
/-- the reference as it is made -/
theorem ov_new {h : zH} (hf : ∀ f, f < 37 → h (1001 + f) = none) : zup (gA [36, 29, 28, 27, 26, 25, 24, 23, 22, 20, 19, 18, 16, 13, 12, 11, 8, 6, 4, 1, 0] h) 1000 (.inr (0, fsL [36, 29, 28, 27, 26, 25, 24, 23, 22, 20, 19, 18, 16, 13, 12, 11, 8, 6, 4, 1, 0] (-1))) = ov tNew h := by
  have hc : ∀ f, f < 37 → ([36, 29, 28, 27, 26, 25, 24, 23, 22, 20, 19, 18, 16, 13, 12, 11, 8, 6, 4, 1, 0] : List Nat).contains f = !(Nat.beq (tlen f) 0) := by decide
  have hg : ∀ f, 37 ≤ f → ([36, 29, 28, 27, 26, 25, 24, 23, 22, 20, 19, 18, 16, 13, 12, 11, 8, 6, 4, 1, 0] : List Nat).contains f = false := fun f hf => by
    simp only [List.contains_cons, List.contains_nil, Bool.or_false, Bool.or_eq_false_iff, beq_eq_false_iff_ne]
    omega
  funext m
  by_cases e : m = 1000
  · subst e
    rw [zup_at]
    rfl
  · rw [zup_ne e]
    unfold gA
    by_cases q : 1000 ≤ m ∧ m < 1038
    · rw [ov_in q.1 q.2]
      unfold tH
      rw [if_neg e]
      obtain ⟨f, rfl⟩ : ∃ f, m = 1001 + f := ⟨m - 1001, by omega⟩
      rw [show 1001 + f - 1001 = f by omega, hc f (by omega)]
      by_cases z : tlen f = 0
      · rw [if_neg (by rw [z]; simp), if_neg (by rw [z]; simp)]
        exact hf f (by omega)
      · have hb : Nat.beq (tlen f) 0 = false := zbeq_ne z
        rw [if_pos ⟨by omega, by rw [hb]; rfl⟩, if_pos ⟨by omega, z⟩]
        unfold tZ
        have : (fun i => iI (tNew f i)) = fun _ => (0 : Int32) := by
          funext i
          unfold tNew
          rw [if_neg (fun e => z (by rw [e]; rfl))]
          rfl
        rw [this]
    · rw [ov_out (by omega), if_neg]
      rintro ⟨z1, z2⟩
      rw [hg (m - 1001) (by omega)] at z2
      cases z2
