/-! ===== Reader.read ===== -/
/-- a job told: its numbers, how many operations, the operations -/
abbrev tTJ : Type := (Nat → Int) × Nat × (Nat → Int × Int × Int)
/-- the jobs told, one after another; the last step: nothing may stand behind them -/
def rdA (t : Nat → Int) (n : Nat) : Nat → Nat → (Nat → tTJ) → Int → (Nat × (Nat → tTJ)) ⊕ Int
  | 0, _, _, p => .inr p
  | j + 1, i, J, p => match jbP t n p with
    | .inr q => .inr q
    | .inl (f, k, o, q) => if hrC t n q = 59 then rdA t n j (i + 1) (fun x => if x = i then (f, k, o) else J x) (q + 1) else if q < n then .inr q else .inl (i + 1, fun x => if x = i then (f, k, o) else J x)
/-- the cells of a job told at B -/
def tjB (B : Nat) (w : tTJ) : zH := tjH (fun _ => none) B 0 0 w.1 w.2.1 w.2.2 0
/-- the cells beside the list of jobs -/
def jsC (h : zH) (N r s i : Nat) (J : Nat → tTJ) (q : Int) : zH := fun m =>
  if m = r then some (oRd s q) else if N + 4 ≤ m ∧ m < N + 4 + 30 * i then tjB (N + 4 + 30 * ((m - (N + 4)) / 30)) (J ((m - (N + 4)) / 30)) m else h m
def jsH (h : zH) (N r s i : Nat) (J : Nat → tTJ) (q : Int) : zH := lH N i i (fun x => N + 4 + 30 * x) (jsC h N r s i J q)
section XRr
variable {h : zH} {r s V n N i : Nat} {t : Nat → Int} {J : Nat → tTJ} {q : Int}
theorem jsH_r (e : r < N) : jsH h N r s i J q r = some (oRd s q) := by
  unfold jsH
  rw [lH_o (by omega)]
  unfold jsC
  rw [if_pos rfl]
theorem jsH_lo {m : Nat} (e : m < N) (e2 : m ≠ r) : jsH h N r s i J q m = h m := by
  unfold jsH
  rw [lH_o (by omega)]
  unfold jsC
  rw [if_neg e2, if_neg (by omega)]
theorem jsH_top (hN : zTop h N) (e : r < N) : zTop (jsH h N r s i J q) (N + 4 + 30 * i) := fun m hm => by
  unfold jsH
  rw [lH_o (by omega)]
  unfold jsC
  rw [if_neg (by omega), if_neg (by omega)]
  exact hN m (by omega)
theorem jsH_b {x m : Nat} (e : r < N) (hx : x < i) (h1 : N + 4 + 30 * x ≤ m) (h2 : m < N + 4 + 30 * (x + 1)) : jsH h N r s i J q m = tjB (N + 4 + 30 * x) (J x) m := by
  have e1 : (m - (N + 4)) / 30 = x := by omega
  unfold jsH
  rw [lH_o (by omega)]
  unfold jsC
  rw [if_neg (by omega), if_pos ⟨by omega, by omega⟩, e1]
theorem jsH_am (hA : Am h) (N8 : 1000 ≤ N) (r8 : 1000 ≤ r) : Am (jsH h N r s i J q) := hA.ext (N := 1000) (fun m hm => jsH_lo (by omega) (by omega)) (by decide)
theorem jsH_tx (hT : TxH h s V t n) (rs : r ≠ s) (rV : r ≠ V) (hsN : s < N) (hVN : V < N) : TxH (jsH h N r s i J q) s V t n := by
  obtain ⟨M, c, f1, a1, a2, a3⟩ := hT
  exact ⟨M, c, f1, (jsH_lo hsN rs.symm).trans a1, (jsH_lo hVN rV.symm).trans a2, a3⟩
theorem jsH_q {q' : Int} (e : r < N) : zup (jsH h N r s i J q) r (oRd s q') = jsH h N r s i J q' := by
  unfold jsH
  rw [lH_up (by omega)]
  congr 1
  funext m
  unfold jsC
  by_cases c : m = r
  · subst c; rw [zup_at, if_pos rfl]
  · rw [zup_ne c, if_neg c, if_neg c]
theorem tjB_of {B m : Nat} {G : zH} {w : tTJ} {q : Int} (e : r < B) (hG : zTop G B) (h1 : B ≤ m) (B0 : 0 < B) : tjH G B r s w.1 w.2.1 w.2.2 q m = tjB B w m := by
  unfold tjB tjH
  by_cases c : m < B + 2 ∨ B + 2 + 4 ≤ m
  · rw [lH_o c, lH_o c]
    unfold tjC
    rw [if_neg (by omega), if_neg (show ¬ m = 0 by omega)]
    by_cases c1 : m = B
    · rw [if_pos c1, if_pos c1]
    · rw [if_neg c1, if_neg c1]
      by_cases c2 : m = B + 1
      · rw [if_pos c2, if_pos c2]
      · rw [if_neg c2, if_neg c2]
        by_cases c3 : B + 6 ≤ m ∧ m < B + 6 + w.2.1
        · rw [if_pos c3, if_pos c3]
        · rw [if_neg c3, if_neg c3]
          exact hG m h1
  · rcases (by omega : m = B + 2 ∨ m = B + 2 + 1 ∨ m = B + 2 + 2 ∨ m = B + 2 + 3) with rfl | rfl | rfl | rfl
    · rw [lH_0, lH_0]
    · rw [lH_1, lH_1]
    · rw [lH_2, lH_2]
    · rw [lH_3, lH_3]
theorem jsH_job {w : tTJ} {q' : Int} (hN : zTop h N) (e : r < N) (hk : w.2.1 ≤ 20) : tjH (jsH h N r s i J q) (N + 4 + 30 * i) r s w.1 w.2.1 w.2.2 q' = lH N i i (fun x => N + 4 + 30 * x) (jsC h N r s (i + 1) (fun x => if x = i then w else J x) q') := by
  have hjt : zTop (jsH h N r s i J q) (N + 4 + 30 * i) := jsH_top hN e
  funext m
  by_cases c0 : m = r
  · subst c0
    rw [tjH_r (by omega), lH_o (by omega)]
    unfold jsC
    rw [if_pos rfl]
  · by_cases c1 : m < N + 4 + 30 * i
    · rw [tjH_lo c1 c0]
      unfold jsH
      by_cases c2 : m < N ∨ N + 4 ≤ m
      · rw [lH_o c2, lH_o c2]
        unfold jsC
        rw [if_neg c0, if_neg c0]
        by_cases c3 : N + 4 ≤ m
        · rw [if_pos ⟨c3, c1⟩, if_pos ⟨c3, by omega⟩]
          dsimp only
          rw [if_neg (by omega)]
        · rw [if_neg (by omega), if_neg (by omega)]
      · rcases (by omega : m = N ∨ m = N + 1 ∨ m = N + 2 ∨ m = N + 3) with rfl | rfl | rfl | rfl
        · rw [lH_0, lH_0]
        · rw [lH_1, lH_1]
        · rw [lH_2, lH_2]
        · rw [lH_3, lH_3]
    · rw [lH_o (by omega)]
      unfold jsC
      rw [if_neg c0]
      by_cases c2 : m < N + 4 + 30 * (i + 1)
      · have e1 : (m - (N + 4)) / 30 = i := by omega
        rw [if_pos ⟨by omega, by omega⟩, e1]
        dsimp only
        rw [if_pos rfl]
        exact tjB_of (by omega) hjt (by omega) (by omega)
      · rw [if_neg (by omega), tjH_top hjt (by omega) (by omega)]
        exact (hN m (by omega)).symm
theorem opA_k {t : Nat → Int} {n : Nat} : ∀ (j k : Nat) (o : Nat → Int × Int × Int) (p : Int) (k' : Nat) (o' : Nat → Int × Int × Int) (q : Int), opA t n j k o p = .inl (k', o', q) → k < k' ∧ k' ≤ k + j
  | 0, k, o, p, k', o', q, e => by (cases e)
  | j + 1, k, o, p, k', o', q, e => by
    unfold opA at e
    cases eo : opP t n p with
    | inr q => rw [eo] at e; cases e
    | inl w =>
      obtain ⟨m, u, f, q2⟩ := w
      rw [eo] at e
      dsimp only at e
      by_cases c : hrC t n q2 = 47
      · rw [if_pos c] at e
        have := opA_k j (k + 1) _ _ k' o' q e
        omega
      · rw [if_neg c] at e
        cases e
        omega
theorem jbP_k {p : Int} {f : Nat → Int} {k : Nat} {o : Nat → Int × Int × Int} (e : jbP t n p = .inl (f, k, o, q)) : 1 ≤ k ∧ k ≤ 20 := by
  unfold jbP at e
  cases eh : hdL t n 3 0 (fun _ => 0) p with
  | inr q => rw [eh] at e; cases e
  | inl w =>
    obtain ⟨f1, q1⟩ := w
    rw [eh] at e
    dsimp only at e
    by_cases c : hrC t n q1 = 58
    · rw [if_neg (not_not_intro c)] at e
      cases e2 : opA t n 20 0 (fun _ => (0, 0, 0)) (q1 + 1) with
      | inr q2 => rw [e2] at e; cases e
      | inl w =>
        obtain ⟨k2, o2, q2⟩ := w
        rw [e2] at e
        cases e
        have := opA_k 20 0 _ _ _ _ _ e2
        omega
    · rw [if_pos c] at e; cases e
theorem zOb_to {h : zH} {o a L : Nat} (e : h o = some (oTo a L)) : zOb h o := Or.inl ⟨_, _, _, e, rfl, q2310⟩
end XRr
section XRs
variable {h : zH} {r s V n N : Nat} {t : Nat → Int} {X : zX} {Q : zO → zH → Prop}
theorem read_jobs (K : zK yX13_read cX13_read 2 (some (.object "java/util/ArrayList")) [] 12 1400 14000 X) {c0 n0 : Nat} (hc0 : c0 ≤ 10) (hn0 : n0 ≤ 100) (hA : Am h) (r8 : 1000 ≤ r) (rs : r ≠ s) (rV : r ≠ V) (hT : TxH h s V t n) (hn : n ≤ 80) (hN : zTop h N) (N8 : 1000 ≤ N) (hrN : r < N) (hsN : s < N) (hVN : V < N) 
    (hQ : Q = fun z h' => match rdA t n 20 0 (fun _ => (fun _ => 0, 0, fun _ => (0, 0, 0))) 0 with | .inl w => ∃ q, z = .inl (some (.ref N)) ∧ h' = jsH h N r s w.1 w.2 q | .inr q => ∃ M, z = .inr M ∧ FtH h h' N r M q) :
    ∀ (j i : Nat) (J : Nat → tTJ) (p : Int), j + i = 20 → 7 * (i : Int) ≤ p → p ≤ n → rdA t n j i J p = rdA t n 20 0 (fun _ => (fun _ => 0, 0, fun _ => (0, 0, 0))) 0 →
    (∀ (c1 n1 : Nat), c1 ≤ c0 + 101 * i → n1 ≤ n0 + 1022 * i → ∀ env, zsub env [(0, .ref r), (1, .ref N)] → zW X Q (jsH h N r s i J p) c1 n1 8 env []) ∧
    (∀ (c1 n1 : Nat), c1 ≤ c0 + 101 * i → n1 ≤ n0 + 1022 * i → ∀ env, zsub env [(0, .ref r), (1, .ref N)] → zW X Q (jsH h N r s i J p) c1 n1 26 env []) := by
  obtain ⟨n9, ht⟩ := hT.r
  obtain ⟨⟨f1, g1⟩, ⟨c7, g7⟩, -⟩ := id hA
  intro j
  induction j with
  | zero => intro i J p hk hp hp2; omega
  | succ j ih =>
    intro i J p hk hp hp2 hE
    have i11 : i ≤ 11 := by omega
    have k1 := x13_job (jsH_am (s := s) (i := i) (J := J) (q := p) hA N8 r8) (jsH_r hrN) r8 rs rV (jsH_tx hT rs rV hsN hVN) hn ⟨by omega, hp2⟩ (jsH_top hN hrN) (by omega) (by omega) (by omega) (by omega)
    have hjp := jbP_p (t := t) (n := n) hp2
    cases eo : jbP t n p with
    | inr e =>
      rw [eo] at k1
      have ea : rdA t n (j + 1) i J p = .inr e := by unfold rdA; rw [eo]
      have fin : ∀ M h', FtH (jsH h N r s i J p) h' (N + 4 + 30 * i) r M e → Q (.inr M) h' := by
        rintro M h' ⟨b1, b2, b3, b4, b5⟩
        have el : ∀ c fs, thL (jsH h N r s i J p) c fs = thL h c fs := fun c fs => thL_ext (fun m hm => jsH_lo (by omega) (by omega))
        rw [hQ, ← hE, ea]
        refine ⟨M, rfl, by omega, ?_, ?_, b4, fun m hm hr => ?_⟩
        · rw [b2]; unfold f14; rw [el]
        · rw [b3]; unfold f7; rw [el]
        · rw [b5 m (by omega) hr, jsH_lo hm hr]
      constructor
      · intro c1 n1 hc1 hn1 env he
        refine zW.cut he ?_
        refine z_aload_n K dX13_read_8 rfl rfl rfl ?_
        refine z_aload_n K dX13_read_9 rfl rfl rfl ?_
        refine z_callV K k1 cV_X13_76_X13 (jsH_r hrN) rfl rfl rfl (by omega) (by omega) (by omega) (Nat.le_of_ble_eq_true rfl) dX13_read_10 (fun q' h1 hq' => ?_) (fun v h1 hv => by obtain ⟨M, hv, -⟩ := hv; cases hv)
        obtain ⟨M, e1, e2⟩ := hq'
        cases e1
        exact z_out K rfl (by omega) (by omega) (fin _ _ e2)
      · intro c1 n1 hc1 hn1 env he
        refine zW.cut he ?_
        refine z_aload_n K dX13_read_26 rfl rfl rfl ?_
        refine z_aload_n K dX13_read_27 rfl rfl rfl ?_
        refine z_callV K k1 cV_X13_76_X13 (jsH_r hrN) rfl rfl rfl (by omega) (by omega) (by omega) (Nat.le_of_ble_eq_true rfl) dX13_read_28 (fun q' h1 hq' => ?_) (fun v h1 hv => by obtain ⟨M, hv, -⟩ := hv; cases hv)
        obtain ⟨M, e1, e2⟩ := hq'
        cases e1
        exact z_out K rfl (by omega) (by omega) (fin _ _ e2)
    | inl w =>
      obtain ⟨f, k, o, q⟩ := w
      rw [eo] at k1
      dsimp only at k1
      have hw := hjp.1 f k o q eo
      have hk9 := jbP_k eo
      rw [jsH_job (w := (f, k, o)) hN hrN hk9.2] at k1
      have hcell : ∀ x, x < i + 1 → lH N i i (fun x => N + 4 + 30 * x) (jsC h N r s (i + 1) (fun x => if x = i then (f, k, o) else J x) q) (N + 4 + 30 * x) = some (oTo (N + 4 + 30 * x + 1) (N + 4 + 30 * x + 2)) := fun x hx => by
        have e1 : (N + 4 + 30 * x - (N + 4)) / 30 = x := by omega
        rw [lH_o (by omega)]
        unfold jsC
        rw [if_neg (by omega), if_pos ⟨by omega, by omega⟩, e1]
        exact tjH_J (by omega)
      have k2 := jl_addL (L := N) (c := (i : Int)) (n := i) (f := fun x => N + 4 + 30 * x) (g := jsC h N r s (i + 1) (fun x => if x = i then (f, k, o) else J x) q) (x := N + 4 + 30 * i) (f1 := f1) (c7 := c7) (by omega) (by omega) (by
        unfold jsC
        rw [if_neg (by omega), if_neg (by omega)]
        exact g1) (by
        unfold jsC
        rw [if_neg (by omega), if_neg (by omega)]
        exact g7) (zOb_to (hcell i (by omega))) (fun x hx => zOb_to (hcell x (by omega)))
      have e2 : lH N ((i : Int) + 1) (i + 1) (fun x => if x = i then N + 4 + 30 * i else N + 4 + 30 * x) (jsC h N r s (i + 1) (fun x => if x = i then (f, k, o) else J x) q) = jsH h N r s (i + 1) (fun x => if x = i then (f, k, o) else J x) q := by
        unfold jsH
        rw [lH_congr (f' := fun x => N + 4 + 30 * x) (fun x hx => by split <;> omega)]
        rfl
      rw [e2] at k2
      have hl9 : ∀ G : zH, lH N (i : Int) i (fun x => N + 4 + 30 * x) G N = some (oL i (lA N i) i) := fun G => lH_0
      have k3 := x13_skip (c := 59) (jsH_am (s := s) (i := i + 1) (J := fun x => if x = i then (f, k, o) else J x) (q := q) hA N8 r8) (jsH_r hrN) r8 (jsH_tx hT rs rV hsN hVN) ⟨by omega, by omega⟩ (by omega)
      rw [jsH_q hrN] at k3
      have at17 : ∀ (c1 n1 : Nat), c1 ≤ c0 + 101 * (i + 1) → n1 ≤ n0 + 1022 * i + 1022 → ∀ env, zsub env [(0, .ref r), (1, .ref N)] → zW X Q (jsH h N r s (i + 1) (fun x => if x = i then (f, k, o) else J x) q) c1 n1 17 env [] := by
        intro c1 n1 hc1 hn1 env he
        refine zW.cut he ?_
        by_cases c : hrC t n q = 59
        · have ea : rdA t n (j + 1) i J p = rdA t n j (i + 1) (fun x => if x = i then (f, k, o) else J x) (q + 1) := by
            rw [rdA, eo]
            exact if_pos c
          have lq := hrC.lt c (by decide)
          have nx := (ih (i + 1) (fun x => if x = i then (f, k, o) else J x) (q + 1) (by omega) (by omega) (by omega) (ea.symm.trans hE)).2
          rw [show bI (hrC t n q = 59) = 1 from if_pos c] at k3
          refine z_aload_n K dX13_read_17 rfl rfl rfl ?_
          refine j_bipush K dX13_read_18 (by decide +kernel) ?_
          refine z_callV K (k3) cV_X13_32_X13 (jsH_r hrN) rfl rfl rfl (by omega) (by omega) (by omega) (Nat.le_of_ble_eq_true rfl) dX13_read_20 zrX (zrK ?_)
          refine j_if_eq (tgt := 38) K dX13_read_23 rfl (by omega) (fun c_23 => ?_) (fun c_23 => ?_)
          · exact absurd c_23 (by decide)
          · exact nx _ _ (by omega) (Nat.le_trans (show _ ≤ n0 + 1022 * i + 1022 by omega) (Nat.le_of_eq (Nat.add_assoc n0 (1022 * i) 1022))) _ ⟨rfl, rfl, trivial⟩
        · rw [show bI (hrC t n q = 59) = 0 from if_neg c, Int.add_zero] at k3
          have k4 := (jsH_tx (r := r) (i := i + 1) (J := fun x => if x = i then (f, k, o) else J x) (q := q) hT rs rV hsN hVN).len
          obtain ⟨cs, hs⟩ := (jsH_tx (r := r) (i := i + 1) (J := fun x => if x = i then (f, k, o) else J x) (q := q) hT rs rV hsN hVN).cls
          have hjt := jsH_top (s := s) (i := i + 1) (J := fun x => if x = i then (f, k, o) else J x) (q := q) hN hrN
          generalize hM : N + 4 + 30 * (i + 1) = M at hjt
          have k5 := x15_init (h := zup (jsH h N r s (i + 1) (fun x => if x = i then (f, k, o) else J x) q) M (.inr (14, [.null, .null, .null, .null, .null, .int 0, .int 0, .int 0]))) (q := M) (a := M + 1) (ps := q) ((jsH_am hA N8 r8).up (by omega)) (zup_at _ _ _) ((zup_ne (by omega)).trans (hjt _ (by omega))) (by omega) (by omega)
          refine z_aload_n K dX13_read_17 rfl rfl rfl ?_
          refine j_bipush K dX13_read_18 (by decide +kernel) ?_
          refine z_callV K (k3) cV_X13_32_X13 (by first | exact jsH_r hrN | exact (zup_ne (by omega)).trans (jsH_r hrN)) rfl rfl rfl (by omega) (by omega) (by omega) (Nat.le_of_ble_eq_true rfl) dX13_read_20 zrX (zrK ?_)
          refine j_if_eq (tgt := 38) K dX13_read_23 rfl (by omega) (fun c_23 => ?_) (fun c_23 => ?_)
          · refine z_aload_n K dX13_read_38 rfl rfl rfl ?_
            refine z_get K fd_X13_15_12 (by first | exact jsH_r hrN | exact (zup_ne (by omega)).trans (jsH_r hrN)) rfl dX13_read_39 ?_
            refine z_aload_n K dX13_read_42 rfl rfl rfl ?_
            refine z_get K fd_X13_9_12 (by first | exact jsH_r hrN | exact (zup_ne (by omega)).trans (jsH_r hrN)) rfl dX13_read_43 ?_
            refine z_callV K (k4) cV_X13_19_J8 (hs) rfl rfl rfl (by omega) (by omega) (by omega) (Nat.le_of_ble_eq_true rfl) dX13_read_46 zrX (zrK ?_)
            refine j_icmp_ge (tgt := 64) K dX13_read_49 rfl (by omega) (by omega) (fun c_49 => ?_) (fun c_49 => ?_)
            · have ea : rdA t n (j + 1) i J p = .inl (i + 1, fun x => if x = i then (f, k, o) else J x) := (by rw [rdA, eo]; exact (if_neg c).trans (if_neg (by omega)))
              refine z_aload_n K dX13_read_64 rfl rfl rfl ?_
              exact z_aret K (by simp) rfl (by omega) (by omega) (by rw [hQ, ← hE, ea]; exact ⟨_, rfl, rfl⟩) dX13_read_65
            · refine z_new K (M) nw_X13_36 (hjt M (Nat.le_refl _)) (by omega) (by omega) (by omega) dX13_read_52 ?_
              refine z_dup K dX13_read_55 rfl ?_
              refine z_aload_n K dX13_read_56 rfl rfl rfl ?_
              refine z_get K fd_X13_15_12 (by first | exact jsH_r hrN | exact (zup_ne (by omega)).trans (jsH_r hrN)) rfl dX13_read_57 ?_
              refine z_cI (fs := []) K (k5) cI_X13_38 rfl rfl (by omega) (by omega) (by omega) (Nat.le_of_ble_eq_true rfl) dX13_read_60 zvX (zvK ?_)
              refine z_athrow K (zup_at _ _ _) rfl dX13_read_63 ?_
              have ea : rdA t n (j + 1) i J p = .inr q := (by rw [rdA, eo]; exact (if_neg c).trans (if_pos (by omega)))
              refine z_out K rfl (by omega) (by omega) ?_
              rw [hQ, ← hE, ea, tfH_eq (by omega)]
              exact ⟨_, rfl, FtH.of N8 r8 (by omega) hjt (fun m hm hr => jsH_lo hm hr)⟩
          · exact absurd rfl c_23
      constructor
      · intro c1 n1 hc1 hn1 env he
        refine zW.cut he ?_
        refine z_aload_n K dX13_read_8 rfl rfl rfl ?_
        refine z_aload_n K dX13_read_9 rfl rfl rfl ?_
        refine z_callV K k1 cV_X13_76_X13 (jsH_r hrN) rfl rfl rfl (by omega) (by omega) (by omega) (Nat.le_of_ble_eq_true rfl) dX13_read_10 (fun q' h1 hq' => by cases hq'.1) (fun v h1 hv => ?_)
        obtain ⟨hv1, rfl⟩ := hv
        cases hv1
        refine z_callV K k2 cV_X13_69_J2 (hl9 _) rfl rfl rfl (by omega) (by omega) (by omega) (Nat.le_of_ble_eq_true rfl) dX13_read_13 zrX (zrK ?_)
        refine z_pop K dX13_read_16 rfl ?_
        exact at17 _ _ (by omega) (by omega) _ ⟨rfl, rfl, trivial⟩
      · intro c1 n1 hc1 hn1 env he
        refine zW.cut he ?_
        refine z_aload_n K dX13_read_26 rfl rfl rfl ?_
        refine z_aload_n K dX13_read_27 rfl rfl rfl ?_
        refine z_callV K k1 cV_X13_76_X13 (jsH_r hrN) rfl rfl rfl (by omega) (by omega) (by omega) (Nat.le_of_ble_eq_true rfl) dX13_read_28 (fun q' h1 hq' => by cases hq'.1) (fun v h1 hv => ?_)
        obtain ⟨hv1, rfl⟩ := hv
        cases hv1
        refine z_callV K k2 cV_X13_69_J2 (hl9 _) rfl rfl rfl (by omega) (by omega) (by omega) (Nat.le_of_ble_eq_true rfl) dX13_read_31 zrX (zrK ?_)
        refine z_pop K dX13_read_34 rfl ?_
        refine z_goto (tgt := 17) K dX13_read_35 rfl ?_
        exact at17 _ _ (by omega) (by omega) _ ⟨rfl, rfl, trivial⟩
theorem jsH_0 {J : Nat → tTJ} {p : Int} (hN : zTop h N) (hR : h r = some (oRd s p)) (e : r < N) : zup h N (oL 0 1 0) = jsH h N r s 0 J p := by
  rw [lH_new (f := fun x => N + 4 + 30 * x) hN]
  unfold jsH
  congr 1
  funext m
  unfold jsC
  by_cases c : m = r
  · subst c; rw [if_pos rfl, hR]
  · rw [if_neg c, if_neg (by omega)]
theorem x13_read (hA : Am h) (hR : h r = some (oRd s 0)) (r8 : 1000 ≤ r) (rs : r ≠ s) (rV : r ≠ V) (hT : TxH h s V t n) (hn : n ≤ 80) (hN : zTop h N) (N8 : 1000 ≤ N) (hrN : r < N) (hsN : s < N) (hVN : V < N) :
    zMet yX13_read (ws_ yX13_read cX13_read 2 (some (.object "java/util/ArrayList"))) 12 [.ref r] h (fun z h' => match rdA t n 20 0 (fun _ => (fun _ => 0, 0, fun _ => (0, 0, 0))) 0 with | .inl w => ∃ q, z = .inl (some (.ref N)) ∧ h' = jsH h N r s w.1 w.2 q | .inr q => ∃ M, z = .inr M ∧ FtH h h' N r M q) 1400 14000 := by
  obtain ⟨⟨f1, g1⟩, -⟩ := id hA
  have k1 := jl_init (h := zup h N (.inr (18, [.int 0, .null, .int 0]))) (L := N) (c1 := aR 0 0 f1) (zup_at _ _ _) ((zup_ne (by omega)).trans g1) N8
  rw [zup_zup, jsH_0 (J := fun _ => (fun _ => 0, 0, fun _ => (0, 0, 0))) hN hR hrN] at k1
  refine zMet.of (by decide) (Nat.le_of_ble_eq_true rfl) fun X K => ?_
  have nx := (read_jobs (c0 := 1) (n0 := 3) K (by decide) (by decide) hA r8 rs rV hT hn hN N8 hrN hsN hVN rfl 20 0 (fun _ => (fun _ => 0, 0, fun _ => (0, 0, 0))) 0 (by omega) (by omega) (by omega) rfl).1
  refine z_new K (N) nw_X13_70 (hN N (Nat.le_refl _)) (by omega) (by omega) (by omega) dX13_read_0 ?_
  refine z_dup K dX13_read_3 rfl ?_
  refine z_cI (fs := []) K (k1) cI_X13_75 rfl rfl (by omega) (by omega) (by omega) (Nat.le_of_ble_eq_true rfl) dX13_read_4 zvX (zvK ?_)
  refine z_astore_n K dX13_read_7 rfl rfl (by decide) rfl ?_
  exact nx _ _ (by omega) (by omega) _ ⟨rfl, rfl, trivial⟩
end XRs

