/-! ===== Reader.job: whole ===== -/
/-- a fault of the text at p stands at M; below N nothing has changed but the reader -/
def FtH (h h' : zH) (N r M : Nat) (p : Int) : Prop := N ≤ M ∧ h' M = some (f14 h (.ref (M + 1)) 2 p) ∧ h' (M + 1) = some (f7 h (.ref (M + 1)) (100 + p)) ∧ zTop h' (M + 2) ∧ ∀ m, m < N → m ≠ r → h' m = h m
theorem thL_ext {h h' : zH} {c : Value} {fs : List Value} (e : ∀ m, m < 1000 → h' m = h m) : thL h' c fs = thL h c fs := by
  unfold thL thV
  rw [e 3 (by decide), e 4 (by decide)]
theorem FtH.of {h g : zH} {N r M : Nat} {p : Int} (N8 : 1000 ≤ N) (r8 : 1000 ≤ r) (hM : N ≤ M) (ht : zTop g M) (he : ∀ m, m < N → m ≠ r → g m = h m) : FtH h (tfH g M (M + 1) p) N r M p := by
  have el : ∀ c fs, thL g c fs = thL h c fs := fun c fs => thL_ext (fun m hm => he m (by omega) (by omega))
  refine ⟨hM, ?_, ?_, fun m hm => ?_, fun m hm hr => ?_⟩
  · unfold tfH f14; rw [zup_at, el]
  · unfold tfH f7; rw [zup_ne (by omega), zup_at, el]
  · unfold tfH; rw [zup_ne (by omega), zup_ne (by omega), ht m (by omega)]
  · unfold tfH; rw [zup_ne (by omega), zup_ne (by omega), he m hm hr]
/-- a job told, or the fault -/
def jbP (t : Nat → Int) (n : Nat) (p : Int) : ((Nat → Int) × Nat × (Nat → Int × Int × Int) × Int) ⊕ Int :=
  match hdL t n 3 0 (fun _ => 0) p with
  | .inr q => .inr q
  | .inl (f, q) => if hrC t n q ≠ 58 then .inr q else match opA t n 20 0 (fun _ => (0, 0, 0)) (q + 1) with
    | .inr e => .inr e
    | .inl (k, o, e) => .inl (f, k, o, e)
theorem hdL_p {t : Nat → Int} {n : Nat} : ∀ (j : Nat) (k : Int) (f : Nat → Int) (p : Int), p ≤ n → (∀ f' q, hdL t n j k f p = .inl (f', q) → p ≤ q ∧ q ≤ n) ∧ (∀ q, hdL t n j k f p = .inr q → p ≤ q ∧ q ≤ n)
  | 0, k, f, p, hp => ⟨fun f' q e => by cases e; exact ⟨Int.le_refl _, hp⟩, fun q e => by cases e⟩
  | j + 1, k, f, p, hp => by
    unfold hdL
    by_cases c1 : 0 < k ∧ hrC t n p ≠ 44
    · rw [if_pos c1]
      exact ⟨fun f' q e => by (cases e), fun q e => by cases e; exact ⟨Int.le_refl _, hp⟩⟩
    · rw [if_neg c1]
      have hq : p ≤ (if 0 < k then p + 1 else p) ∧ (if 0 < k then p + 1 else p) ≤ n := by
        by_cases c2 : 0 < k
        · rw [if_pos c2]
          have : hrC t n p = 44 := Decidable.byContradiction fun z => c1 ⟨c2, z⟩
          have := hrC.lt this (by decide)
          omega
        · rw [if_neg c2]; omega
      generalize (if 0 < k then p + 1 else p) = q0 at hq
      by_cases c3 : isD t n q0
      · rw [if_neg (not_not_intro c3)]
        have h1 := nmR_p c3
        obtain ⟨h2, h3⟩ := hdL_p (t := t) j (k + 1) (sup f k.toNat (nmR t n q0).1) (nmR t n q0).2 h1.2
        exact ⟨fun f' q e => by have := h2 f' q e; omega, fun q e => by have := h3 q e; omega⟩
      · rw [if_pos c3]
        exact ⟨fun f' q e => by (cases e), fun q e => by cases e; exact hq⟩
theorem opA_p {t : Nat → Int} {n : Nat} : ∀ (j k : Nat) (o : Nat → Int × Int × Int) (p : Int), p ≤ n → (∀ k' o' q, opA t n j k o p = .inl (k', o', q) → p + 5 ≤ q ∧ q ≤ n) ∧ (∀ q, opA t n j k o p = .inr q → p ≤ q ∧ q ≤ n)
  | 0, k, o, p, hp => ⟨fun k' o' q e => by (cases e), fun q e => by cases e; exact ⟨Int.le_refl _, hp⟩⟩
  | j + 1, k, o, p, hp => by
    unfold opA
    cases e : opP t n p with
    | inr q => 
      have := opP_fl hp e
      exact ⟨fun k' o' q e => by (cases e), fun q e => by cases e; exact this⟩
    | inl w =>
      obtain ⟨m, u, f, q⟩ := w
      have h1 := opP_ok e
      dsimp only
      by_cases c : hrC t n q = 47
      · rw [if_pos c]
        have := hrC.lt c (by decide)
        obtain ⟨h2, h3⟩ := opA_p (t := t) (n := n) j (k + 1) (fun i => if i = k then (m, u, f) else o i) (q + 1) (by omega)
        exact ⟨fun k' o' q e => by have := h2 k' o' q e; omega, fun q e => by have := h3 q e; omega⟩
      · rw [if_neg c]
        exact ⟨fun k' o' q e => by cases e; omega, fun q e => by (cases e)⟩
theorem jbP_p {t : Nat → Int} {n : Nat} {p : Int} (hp : p ≤ n) : (∀ f k o q, jbP t n p = .inl (f, k, o, q) → p + 6 ≤ q ∧ q ≤ n) ∧ (∀ q, jbP t n p = .inr q → p ≤ q ∧ q ≤ n) := by
  unfold jbP
  have h0 := hdL_p (t := t) (n := n) 3 0 (fun _ => 0) p hp
  cases e : hdL t n 3 0 (fun _ => 0) p with
  | inr q =>
    have := h0.2 q e
    exact ⟨fun f k o q e => by (cases e), fun q e => by cases e; exact this⟩
  | inl w =>
    obtain ⟨f, q⟩ := w
    have h1 := h0.1 f q e
    dsimp only
    by_cases c : hrC t n q = 58
    · rw [if_neg (not_not_intro c)]
      have := hrC.lt c (by decide)
      have h2 := opA_p (t := t) (n := n) 20 0 (fun _ => (0, 0, 0)) (q + 1) (by omega)
      cases e2 : opA t n 20 0 (fun _ => (0, 0, 0)) (q + 1) with
      | inr q2 =>
        have := h2.2 q2 e2
        exact ⟨fun f k o q e => by (cases e), fun q e => by cases e; omega⟩
      | inl w =>
        obtain ⟨k, o, q2⟩ := w
        have := h2.1 k o q2 e2
        exact ⟨fun f k o q e => by cases e; omega, fun q e => by (cases e)⟩
    · rw [if_pos c]
      exact ⟨fun f k o q e => by (cases e), fun q e => by cases e; exact h1⟩
section XRk
variable {h : zH} {r s V n N : Nat} {t : Nat → Int} {X : zX} {Q : zO → zH → Prop}
theorem tjH_top0 {k : Nat} {f : Nat → Int} {o : Nat → Int × Int × Int} {q : Int} (hN : zTop h N) (e : r < N) : zTop (tjH h N r s f k o q) (N + 6 + k) := fun m hm => tjH_top hN e hm
theorem tjH_L {k : Nat} {f : Nat → Int} {o : Nat → Int × Int × Int} {q : Int} : tjH h N r s f k o q (N + 2) = some (oL k (lA (N + 2) k) k) := lH_0
theorem job_ops (K : zK yX13_job cX13_job 3 (some (.object "SetupJobShop$ToldJob")) [] 11 100 1000 X) {c0 n0 : Nat} (hc0 : c0 ≤ 10) (hn0 : n0 ≤ 100) (hA : Am h) (r8 : 1000 ≤ r) (rs : r ≠ s) (rV : r ≠ V) (hT : TxH h s V t n) (hn : n ≤ 80) (hN : zTop h N) (N8 : 1000 ≤ N) (hrN : r < N) (hsN : s < N) (hVN : V < N) {f : Nat → Int} :
    ∀ (j k : Nat) (o : Nat → Int × Int × Int) (p : Int), j + k = 20 → 6 * (k : Int) ≤ p → p ≤ n →
    (∀ k' o' q, opA t n j k o p = .inl (k', o', q) → ∀ env, zsub env [(0, .ref r), (1, .ref N)] → zW X Q (tjH h N r s f k' o' q) 100 1000 83 env []) →
    (∀ M q h', opA t n j k o p = .inr q → FtH h h' N r M q → Q (.inr M) h') →
    (∀ env, zsub env [(0, .ref r), (1, .ref N)] → zW X Q (tjH h N r s f k o p) (c0 + 4 * k) (n0 + 40 * k) 47 env []) ∧
    (∀ env, zsub env [(0, .ref r), (1, .ref N)] → zW X Q (tjH h N r s f k o p) (c0 + 4 * k) (n0 + 40 * k) 68 env []) := by
  obtain ⟨n9, ht⟩ := hT.r
  obtain ⟨⟨f1, g1⟩, ⟨c7, g7⟩, -⟩ := id hA
  intro j
  induction j with
  | zero => intro k o p hk hp hp2; omega
  | succ j ih =>
    intro k o p hk hp hp2 hY hX
    have k1 := tj_op (k := k) (f := f) (o := o) hA r8 rs rV hT (q := p) ⟨by omega, hp2⟩ hN N8 hrN hsN hVN
    cases eo : opP t n p with
    | inr e =>
      rw [eo] at k1
      have ea : opA t n (j + 1) k o p = .inr e := by unfold opA; rw [eo]
      have hep := opP_fl hp2 eo
      have fin : ∀ M h', M = N + 6 + k + 1 → (∃ f', h' = tfH (oH (tjH h N r s f k o p) r s (N + 6 + k) f' e) (N + 6 + k + 1) (N + 6 + k + 2) e) → Q (.inr M) h' := by
        rintro M h' rfl ⟨f', rfl⟩
        refine hX _ e _ ea (FtH.of N8 r8 (by omega) (fun m hm => ?_) (fun m hm hr => ?_))
        · exact oH_t (tjH_top0 hN hrN) (by omega) (by omega)
        · exact (zup_ne hr).trans ((zup_ne (by omega)).trans (tjH_lo hm hr))
      constructor
      · intro env he
        refine zW.cut he ?_
        refine z_aload_n K dX13_job_47 rfl rfl rfl ?_
        refine z_get K fd_X13_61_13 (tjH_J hrN) rfl dX13_job_48 ?_
        refine z_aload_n K dX13_job_51 rfl rfl rfl ?_
        refine z_callV K k1 cV_X13_65_X13 (tjH_r hrN) rfl rfl rfl (by omega) (by omega) (by omega) (Nat.le_of_ble_eq_true rfl) dX13_job_52 (fun q' h1 hq' => ?_) (fun v h1 hv => by cases hv.1)
        exact z_out K rfl (by omega) (by omega) (fin _ _ (by injection hq'.1) hq'.2)
      · intro env he
        refine zW.cut he ?_
        refine z_aload_n K dX13_job_68 rfl rfl rfl ?_
        refine z_get K fd_X13_61_13 (tjH_J hrN) rfl dX13_job_69 ?_
        refine z_aload_n K dX13_job_72 rfl rfl rfl ?_
        refine z_callV K k1 cV_X13_65_X13 (tjH_r hrN) rfl rfl rfl (by omega) (by omega) (by omega) (Nat.le_of_ble_eq_true rfl) dX13_job_73 (fun q' h1 hq' => ?_) (fun v h1 hv => by cases hv.1)
        exact z_out K rfl (by omega) (by omega) (fin _ _ (by injection hq'.1) hq'.2)
    | inl w =>
      obtain ⟨m, u, g, q⟩ := w
      rw [eo] at k1
      dsimp only at k1
      have hw := opP_ok eo
      have k2 := jl_addL (L := N + 2) (c := (k : Int)) (n := k) (f := fun i => N + 6 + i) (g := zup (zup (tjC h N r s f k o p) (N + 6 + k) (aI 3 (row3 m u g))) r (oRd s q)) (x := N + 6 + k) (f1 := f1) (c7 := c7) (by omega) (by omega) (by
        rw [zup_ne (by omega), zup_ne (by omega)]
        unfold tjC
        rw [if_neg (by omega), if_neg (by omega), if_neg (by omega), if_neg (by omega)]
        exact g1) (by
        rw [zup_ne (by omega), zup_ne (by omega)]
        unfold tjC
        rw [if_neg (by omega), if_neg (by omega), if_neg (by omega), if_neg (by omega)]
        exact g7) (Or.inr ⟨3, _, (lH_o (by omega)).trans ((zup_ne (by omega)).trans (zup_at _ _ _))⟩) (fun i hi => by
          have hc : lH (N + 2) (k : Int) k (fun i => N + 6 + i) (zup (zup (tjC h N r s f k o p) (N + 6 + k) (aI 3 (row3 m u g))) r (oRd s q)) (N + 6 + i) = some (aI 3 (row3 (o i).1 (o i).2.1 (o i).2.2)) := by
            rw [lH_o (by omega), zup_ne (by omega), zup_ne (by omega)]
            unfold tjC
            rw [if_neg (by omega), if_neg (by omega), if_neg (by omega), if_pos ⟨by omega, by omega⟩, show N + 6 + i - (N + 6) = i by omega]
          exact Or.inr ⟨3, _, hc⟩)
      rw [tjH_add hrN] at k2
      have hl9 : ∀ G : zH, lH (N + 2) (k : Int) k (fun i => N + 6 + i) G (N + 2) = some (oL k (lA (N + 2) k) k) := fun G => lH_0
      have k3 := x13_skip (c := 47) (tjH_am (k := k + 1) (f := f) (o := fun i => if i = k then (m, u, g) else o i) (q := q) hA N8 r8) (tjH_r hrN) r8 (tjH_tx hT rs rV hsN hVN) ⟨by omega, by omega⟩ (by omega)
      rw [tjH_q hrN] at k3
      have at59 : ∀ env, zsub env [(0, .ref r), (1, .ref N)] → zW X Q (tjH h N r s f (k + 1) (fun i => if i = k then (m, u, g) else o i) q) (c0 + 4 * (k + 1)) (n0 + 40 * (k + 1)) 59 env [] := by
        intro env he
        refine zW.cut he ?_
        by_cases c : hrC t n q = 47
        · have ea : opA t n (j + 1) k o p = opA t n j (k + 1) (fun i => if i = k then (m, u, g) else o i) (q + 1) := by
            rw [opA, eo]
            exact if_pos c
          rw [ea] at hY hX
          have lq := hrC.lt c (by decide)
          have nx := (ih (k + 1) (fun i => if i = k then (m, u, g) else o i) (q + 1) (by omega) (by omega) (by omega) hY hX).2
          rw [show bI (hrC t n q = 47) = 1 from if_pos c] at k3
          refine z_aload_n K dX13_job_59 rfl rfl rfl ?_
          refine j_bipush K dX13_job_60 (by decide +kernel) ?_
          refine z_callV K (k3) cV_X13_32_X13 (tjH_r hrN) rfl rfl rfl (by omega) (by omega) (by omega) (Nat.le_of_ble_eq_true rfl) dX13_job_62 zrX (zrK ?_)
          refine j_if_eq (tgt := 83) K dX13_job_65 rfl (by omega) (fun c_65 => ?_) (fun c_65 => ?_)
          · exact absurd c_65 (by decide)
          · exact nx _ ⟨rfl, rfl, trivial⟩
        · have ea : opA t n (j + 1) k o p = .inl (k + 1, fun i => if i = k then (m, u, g) else o i, q) := by
            rw [opA, eo]
            exact if_neg c
          rw [show bI (hrC t n q = 47) = 0 from if_neg c, Int.add_zero] at k3
          have nx := hY _ _ _ ea
          refine z_aload_n K dX13_job_59 rfl rfl rfl ?_
          refine j_bipush K dX13_job_60 (by decide +kernel) ?_
          refine z_callV K (k3) cV_X13_32_X13 (tjH_r hrN) rfl rfl rfl (by omega) (by omega) (by omega) (Nat.le_of_ble_eq_true rfl) dX13_job_62 zrX (zrK ?_)
          refine j_if_eq (tgt := 83) K dX13_job_65 rfl (by omega) (fun c_65 => ?_) (fun c_65 => ?_)
          · exact zW.widen (by omega) (by omega) (nx _ ⟨rfl, rfl, trivial⟩)
          · exact absurd rfl c_65
      constructor
      · intro env he
        refine zW.cut he ?_
        refine z_aload_n K dX13_job_47 rfl rfl rfl ?_
        refine z_get K fd_X13_61_13 (tjH_J hrN) rfl dX13_job_48 ?_
        refine z_aload_n K dX13_job_51 rfl rfl rfl ?_
        refine z_callV K k1 cV_X13_65_X13 (tjH_r hrN) rfl rfl rfl (by omega) (by omega) (by omega) (Nat.le_of_ble_eq_true rfl) dX13_job_52 (fun q' h1 hq' => by cases hq'.1) (fun v h1 hv => ?_)
        obtain ⟨hv1, rfl⟩ := hv
        cases hv1
        refine z_callV K k2 cV_X13_69_J2 (hl9 _) rfl rfl rfl (by omega) (by omega) (by omega) (Nat.le_of_ble_eq_true rfl) dX13_job_55 zrX (zrK ?_)
        refine z_pop K dX13_job_58 rfl ?_
        exact zW.widen (by omega) (by omega) (at59 _ ⟨rfl, rfl, trivial⟩)
      · intro env he
        refine zW.cut he ?_
        refine z_aload_n K dX13_job_68 rfl rfl rfl ?_
        refine z_get K fd_X13_61_13 (tjH_J hrN) rfl dX13_job_69 ?_
        refine z_aload_n K dX13_job_72 rfl rfl rfl ?_
        refine z_callV K k1 cV_X13_65_X13 (tjH_r hrN) rfl rfl rfl (by omega) (by omega) (by omega) (Nat.le_of_ble_eq_true rfl) dX13_job_73 (fun q' h1 hq' => by cases hq'.1) (fun v h1 hv => ?_)
        obtain ⟨hv1, rfl⟩ := hv
        cases hv1
        refine z_callV K k2 cV_X13_69_J2 (hl9 _) rfl rfl rfl (by omega) (by omega) (by omega) (Nat.le_of_ble_eq_true rfl) dX13_job_76 zrX (zrK ?_)
        refine z_pop K dX13_job_79 rfl ?_
        refine z_goto (tgt := 59) K dX13_job_80 rfl ?_
        exact zW.widen (by omega) (by omega) (at59 _ ⟨rfl, rfl, trivial⟩)
/-- the cells of a job just made -/
theorem tjH_0 {f : Nat → Int} {o : Nat → Int × Int × Int} {q : Int} {c : zC} (hN : zTop h N) (e : r < N) : oH (zup (zup (zup (zup h N c) (N + 1) (aI 3 (fun _ => 0))) (N + 2) (oL 0 1 0)) N (oTo (N + 1) (N + 2))) r s (N + 1) f q = tjH h N r s f 0 o q := by
  unfold oH tjH
  refine lH_e ?_ ?_ ?_ ?_ (fun m hm => ?_)
  · rw [zup_ne (by omega), zup_ne (by omega), zup_ne (by omega), zup_at]; rfl
  · rw [zup_ne (by omega), zup_ne (by omega), zup_ne (by omega), zup_ne (by omega), zup_ne (by omega), zup_ne (by omega), hN _ (by omega), if_pos rfl]
  · rw [zup_ne (by omega), zup_ne (by omega), zup_ne (by omega), zup_ne (by omega), zup_ne (by omega), zup_ne (by omega), hN _ (by omega), if_pos (by omega)]
  · rw [zup_ne (by omega), zup_ne (by omega), zup_ne (by omega), zup_ne (by omega), zup_ne (by omega), zup_ne (by omega), hN _ (by omega), if_pos (by omega)]
  · unfold tjC
    by_cases c1 : m = r
    · subst c1; rw [zup_at, if_pos rfl]
    · rw [zup_ne c1, if_neg c1]
      by_cases c2 : m = N
      · subst c2; rw [zup_ne (by omega), zup_at, if_pos rfl]
      · rw [if_neg c2]
        by_cases c3 : m = N + 1
        · subst c3; rw [zup_at, if_pos rfl]
        · rw [zup_ne c3, zup_ne c2, zup_ne (by omega), zup_ne c3, zup_ne c2, if_neg c3, if_neg (by omega)]
theorem x13_job {p : Int} (hA : Am h) (hR : h r = some (oRd s p)) (r8 : 1000 ≤ r) (rs : r ≠ s) (rV : r ≠ V) (hT : TxH h s V t n) (hn : n ≤ 80) (hp : 0 ≤ p ∧ p ≤ n) (hN : zTop h N) (N8 : 1000 ≤ N) (hrN : r < N) (hsN : s < N) (hVN : V < N) :
    zMet yX13_job (ws_ yX13_job cX13_job 3 (some (.object "SetupJobShop$ToldJob"))) 11 [.ref r] h (fun z h' => match jbP t n p with | .inl w => z = .inl (some (.ref N)) ∧ h' = tjH h N r s w.1 w.2.1 w.2.2.1 w.2.2.2 | .inr q => ∃ M, z = .inr M ∧ FtH h h' N r M q) 100 1000 := by
  obtain ⟨n9, ht⟩ := hT.r
  have k1 := x14_init (h := zup h N (.inr (13, [.null, .null]))) (J := N) (a := N + 1) (L := N + 2) (hA.up N8) (zup_at _ _ _) ((zup_ne (by omega)).trans (hN _ (by omega))) ((zup_ne (by omega)).trans (hN _ (by omega))) (by omega) N8 (by omega) (by omega)
  have hhd := hdL_p (t := t) (n := n) 3 0 (fun _ => 0) p hp.2
  obtain ⟨Q, hQ⟩ : ∃ Q : zO → zH → Prop, Q = (fun z h' => match jbP t n p with | .inl w => z = .inl (some (.ref N)) ∧ h' = tjH h N r s w.1 w.2.1 w.2.2.1 w.2.2.2 | .inr q => ∃ M, z = .inr M ∧ FtH h h' N r M q) := ⟨_, rfl⟩
  refine zMet.weaken (Q := Q) ?_ (fun z h' q => by rw [hQ] at q; exact q)
  have hY : ∀ f k o q, jbP t n p = .inl (f, k, o, q) → Q (.inl (some (.ref N))) (tjH h N r s f k o q) := fun f k o q e => by rw [hQ]; dsimp only; rw [e]; exact ⟨rfl, rfl⟩
  have hX : ∀ M q h', jbP t n p = .inr q → FtH h h' N r M q → Q (.inr M) h' := fun M q h' e h1 => by rw [hQ]; dsimp only; rw [e]; exact ⟨M, rfl, h1⟩
  clear hQ
  refine zMet.of (by decide) (Nat.le_of_ble_eq_true rfl) fun X K => ?_
  have T0 : ∀ f q, oH (zup (zup (zup (zup h N (.inr (13, [.null, .null]))) (N + 1) (aI 3 (fun _ => 0))) (N + 2) (oL 0 1 0)) N (oTo (N + 1) (N + 2))) r s (N + 1) f q = tjH h N r s f 0 (fun _ => (0, 0, 0)) q := fun f q => tjH_0 hN hrN
  have hd9 := job_head (h := zup (zup (zup (zup h N (.inr (13, [.null, .null]))) (N + 1) (aI 3 (fun _ => 0))) (N + 2) (oL 0 1 0)) N (oTo (N + 1) (N + 2))) (r := r) (s := s) (V := V) (n := n) (a := N + 1) (J := N) (N := N + 6) (t := t) (L0 := N + 2) (Q := Q) K (c0 := 3) (n0 := 8) (by decide) (by decide) ((((hA.up N8).up (by omega)).up (by omega)).up N8) r8 rs rV ((((hT.up (by omega) (by omega)).up (by omega) (by omega)).up (by omega) (by omega)).up (by omega) (by omega)) (fun m hm => by rw [zup_ne (by omega), zup_ne (by omega), zup_ne (by omega), zup_ne (by omega)]; exact hN m (by omega)) (by omega) (by omega) (by omega) (by omega) (by omega) (zup_at _ _ _) (by omega) (by omega) 3 0 (fun _ => 0) p (by omega) (by omega) hp (by
      intro f' q eh env he
      rw [T0]
      have hq := hhd.1 f' q eh
      by_cases c : hrC t n q = 58
      · have lq := hrC.lt c (by decide)
        have ej : ∀ w, opA t n 20 0 (fun _ => (0, 0, 0)) (q + 1) = w → jbP t n p = match w with | .inr e => .inr e | .inl (k, o, e) => .inl (f', k, o, e) := fun w e => by
          unfold jbP
          rw [eh]
          dsimp only
          rw [if_neg (not_not_intro c), e]
        have k2 := x13_mustY (c := 58) (tjH_am (k := 0) (f := f') (o := fun _ => (0, 0, 0)) (q := q) hA N8 r8) (tjH_r hrN) r8 (tjH_tx hT rs rV hsN hVN) ⟨by omega, by omega⟩ (by omega) c
        rw [tjH_q hrN] at k2
        have nx := (job_ops (Q := Q) (c0 := 3) (n0 := 8) K (by decide) (by decide) hA r8 rs rV hT hn hN N8 hrN hsN hVN (f := f') 20 0 (fun _ => (0, 0, 0)) (q + 1) (by omega) (by omega) (by omega) (by
          intro k' o' q2 e env he
          refine zW.cut he ?_
          have ej := ej _ e
          refine z_aload_n K dX13_job_83 rfl rfl rfl ?_
          exact z_aret K (by simp) rfl (by omega) (by omega) (hY _ _ _ _ ej) dX13_job_84
          ) (by
          intro M q2 h' e hf
          exact hX M q2 h' (ej _ e) hf)).1
        refine zW.cut he ?_
        refine z_aload_n K dX13_job_41 rfl rfl rfl ?_
        refine j_bipush K dX13_job_42 (by decide +kernel) ?_
        refine z_callV K (k2) cV_X13_48_X13 (tjH_r hrN) rfl rfl rfl (by omega) (by omega) (by omega) (Nat.le_of_ble_eq_true rfl) dX13_job_44 zvX (zvK ?_)
        exact nx _ ⟨rfl, rfl, trivial⟩
      · have ej : jbP t n p = .inr q := by
          unfold jbP
          rw [eh]
          exact if_pos c
        have k2 := x13_mustN (c := 58) (N := N + 6) (tjH_am (k := 0) (f := f') (o := fun _ => (0, 0, 0)) (q := q) hA N8 r8) (tjH_r hrN) r8 (tjH_tx hT rs rV hsN hVN) ⟨by omega, by omega⟩ (by omega) c (tjH_top hN hrN (by omega)) (tjH_top hN hrN (by omega)) (by omega)
        refine zW.cut he ?_
        refine z_aload_n K dX13_job_41 rfl rfl rfl ?_
        refine j_bipush K dX13_job_42 (by decide +kernel) ?_
        refine z_callV K k2 cV_X13_48_X13 (tjH_r hrN) rfl rfl rfl (by omega) (by omega) (by omega) (Nat.le_of_ble_eq_true rfl) dX13_job_44 (fun q' h1 hq' => ?_) (fun v h1 hv => by cases hv.1)
        obtain ⟨e1, rfl⟩ := hq'
        cases e1
        refine z_out K rfl (by omega) (by omega) ?_
        exact hX _ q _ ej (FtH.of N8 r8 (by omega) (fun m hm => tjH_top hN hrN (by omega)) (fun m hm hr => tjH_lo hm hr))
      ) (by
      intro f' q eh
      have ej : jbP t n p = .inr q := by unfold jbP; rw [eh]
      rw [T0]
      exact hX _ q _ ej (FtH.of N8 r8 (by omega) (fun m hm => tjH_top hN hrN (by omega)) (fun m hm hr => tjH_lo hm hr)))
  rw [oH, zup_self (h := zup (zup (zup (zup h N (.inr (13, [.null, .null]))) (N + 1) (aI 3 (fun _ => 0))) (N + 2) (oL 0 1 0)) N (oTo (N + 1) (N + 2))) (nm := N + 1) ((zup_ne (by omega)).trans ((zup_ne (by omega)).trans (zup_at _ _ _))), zup_self ((zup_ne (by omega)).trans ((zup_ne (by omega)).trans ((zup_ne (by omega)).trans ((zup_ne (by omega)).trans hR))))] at hd9
  refine z_new K (N) nw_X13_54 (hN N (Nat.le_refl _)) (by omega) (by omega) (by omega) dX13_job_0 ?_
  refine z_dup K dX13_job_3 rfl ?_
  refine z_cIN (fs := []) K (k1) cI_X13_56 rfl rfl (by omega) (by omega) (by omega) (Nat.le_of_ble_eq_true rfl) dX13_job_4 zvX (zvK ?_)
  refine z_astore_n K dX13_job_7 rfl rfl (by decide) rfl ?_
  refine j_iconst K dX13_job_8 ?_
  refine z_istore_n K dX13_job_9 rfl (by decide) rfl ?_
  exact zW.widen (by omega) (by omega) (hd9 _ ⟨rfl, rfl, rfl, trivial⟩)
end XRk

