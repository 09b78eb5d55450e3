/-! ===== Reader.job: the numbers ===== -/
section XRh
variable {h : zH} {r s V n a J N : Nat} {t : Nat → Int} {kc ks : Nat} {X : zX} {Q : zO → zH → Prop} {L0 : Nat}
theorem job_head (K : zK yX13_job cX13_job 3 (some (.object "SetupJobShop$ToldJob")) [] 11 kc ks X) {c0 n0 : Nat} (hc0 : c0 + 2 ≤ kc) (hn0 : n0 + 15 ≤ ks) (hA : Am h) (r8 : 1000 ≤ r) (rs : r ≠ s) (rV : r ≠ V) (hT : TxH h s V t n) (hN : zTop h N) (a8 : 1000 ≤ a) (hra : r < a) (hsa : s < a) (hVa : V < a) (haN : a < N) (hJ : h J = some (oTo a L0)) (hJr : J ≠ r) (hJa : J ≠ a) :
    ∀ (j : Nat) (k : Int) (f : Nat → Int) (p : Int), k + j = 3 → 0 ≤ k → 0 ≤ p ∧ p ≤ n →
    (∀ f' q, hdL t n j k f p = .inl (f', q) → ∀ env, zsub env [(0, .ref r), (1, .ref J)] → zW X Q (oH h r s a f' q) c0 n0 41 env []) →
    (∀ f' q, hdL t n j k f p = .inr q → Q (.inr N) (tfH (oH h r s a f' q) N (N + 1) q)) →
    ∀ env, zsub env [(0, .ref r), (1, .ref J), (2, .int (iI k))] → zW X Q (oH h r s a f p) c0 n0 10 env [] := by
  obtain ⟨n9, ht⟩ := hT.r
  have aH : ∀ f q, Am (oH h r s a f q) := fun f q => (hA.up a8).up r8
  have tH9 : ∀ f q, TxH (oH h r s a f q) s V t n := fun f q => (hT.up (by omega) (by omega)).up rs.symm rV.symm
  have oT : ∀ f q m, N ≤ m → oH h r s a f q m = none := fun f q m hm => (zup_ne (by omega)).trans ((zup_ne (by omega)).trans (hN m (by omega)))
  have oJ : ∀ f q, oH h r s a f q J = some (oTo a L0) := fun f q => (zup_ne hJr).trans ((zup_ne hJa).trans hJ)
  have mY : ∀ (f : Nat → Int) (q c : Int), 0 ≤ q ∧ q ≤ n → 0 ≤ c ∧ c < 65536 → hrC t n q = c → zMet yX13_must (ws_ yX13_must cX13_must 2 none) 8 [.ref r, .int (iI c)] (oH h r s a f q) (zVd (oH h r s a f (q + 1))) 0 0 := fun f q c hq hc e => by
    have := x13_mustY (aH f q) oH_r r8 (tH9 f q) hq hc e
    rw [oH_q] at this
    exact this
  have nY : ∀ (f : Nat → Int) (q : Int), 0 ≤ q ∧ q ≤ n → isD t n q → zMet yX13_number (ws_ yX13_number cX13_number 3 (some .int)) 9 [.ref r] (oH h r s a f q) (zRet (.int (iI (nmR t n q).1)) (oH h r s a f (nmR t n q).2)) 0 0 := fun f q hq e => by
    have := x13_numberY (aH f q) oH_r r8 rs rV (tH9 f q) hq e
    rw [oH_q] at this
    exact this
  have mN := fun (f : Nat → Int) (q c : Int) hq hc e => x13_mustN (c := c) (N := N) (aH f q) oH_r r8 (tH9 f q) hq hc e (oT f q N (by omega)) (oT f q (N + 1) (by omega)) (by omega)
  have nN := fun (f : Nat → Int) (q : Int) hq e => x13_numberN (N := N) (aH f q) oH_r r8 rs rV (tH9 f q) hq e (oT f q N (by omega)) (oT f q (N + 1) (by omega)) (by omega)
  intro j
  induction j with
  | zero =>
    intro k f p hk k0 hp hY hX env he
    refine zW.cut he ?_
    refine z_iload_n K dX13_job_10 rfl rfl ?_
    refine j_iconst K dX13_job_11 ?_
    refine j_icmp_ge (tgt := 41) K dX13_job_12 rfl (by omega) (by omega) (fun c_12 => ?_) (fun c_12 => ?_)
    · exact hY f p rfl _ ⟨rfl, rfl, trivial⟩
    · exact absurd c_12 (by omega)
  | succ j ih =>
    intro k f p hk k0 hp hY hX env he
    refine zW.cut he ?_
    have at25 : ∀ q : Int, 0 ≤ q ∧ q ≤ n → (if 0 < k then p + 1 else p) = q → ¬ (0 < k ∧ hrC t n p ≠ 44) → ∀ env, zsub env [(0, .ref r), (1, .ref J), (2, .int (iI k))] → zW X Q (oH h r s a f q) c0 n0 25 env [] := by
      intro q hq eq hm env he
      refine zW.cut he ?_
      by_cases d : isD t n q
      · have eh : hdL t n (j + 1) k f p = hdL t n j (k + 1) (sup f k.toNat (nmR t n q).1) (nmR t n q).2 := by
          show (if _ then _ else _) = _
          rw [if_neg hm, eq, if_neg (not_not_intro d)]
        have hq2 := nmR_p d
        have k2 := nY f q hq d
        rw [eh] at hY hX
        have nx := ih (k + 1) (sup f k.toNat (nmR t n q).1) (nmR t n q).2 (by omega) (by omega) (by omega) hY hX
        refine z_aload_n K dX13_job_25 rfl rfl rfl ?_
        refine z_get K fd_X13_57_13 (oJ _ _) rfl dX13_job_26 ?_
        refine z_iload_n K dX13_job_29 rfl rfl ?_
        refine z_aload_n K dX13_job_30 rfl rfl rfl ?_
        refine z_callV K (k2) cV_X13_51_X13 (oH_r) rfl rfl rfl (by omega) (by omega) (by omega) (Nat.le_of_ble_eq_true rfl) dX13_job_31 zrX (zrK ?_)
        refine j_istE K (oH_N hra) a8 (by omega) (by omega) dX13_job_34 (oH_f hra) ?_
        refine j_iinc K dX13_job_35 rfl (by decide) rfl ?_
        refine z_goto (tgt := 10) K dX13_job_38 rfl ?_
        exact nx _ ⟨rfl, rfl, rfl, trivial⟩
      · have eh : hdL t n (j + 1) k f p = .inr q := by
          show (if _ then _ else _) = _
          rw [if_neg hm, eq, if_pos d]
        have k2 := nN f q hq d
        refine z_aload_n K dX13_job_25 rfl rfl rfl ?_
        refine z_get K fd_X13_57_13 (oJ _ _) rfl dX13_job_26 ?_
        refine z_iload_n K dX13_job_29 rfl rfl ?_
        refine z_aload_n K dX13_job_30 rfl rfl rfl ?_
        refine z_callV K k2 cV_X13_51_X13 oH_r rfl rfl rfl (by omega) (by omega) (by omega) (Nat.le_of_ble_eq_true rfl) dX13_job_31 (fun q' h1 hq' => ?_) (fun v h1 hv => by cases hv.1)
        obtain ⟨e1, e2⟩ := hq'
        cases e1
        rw [e2]
        exact z_out K rfl (by omega) (by omega) (hX f q eh)
    by_cases hk1 : 0 < k
    · by_cases d : hrC t n p = 44
      · have k1 := mY f p 44 hp (by omega) d
        have lp := hrC.lt d (by decide)
        refine z_iload_n K dX13_job_10 rfl rfl ?_
        refine j_iconst K dX13_job_11 ?_
        refine j_icmp_ge (tgt := 41) K dX13_job_12 rfl (by omega) (by omega) (fun c_12 => ?_) (fun c_12 => ?_)
        · exact absurd c_12 (by omega)
        · refine z_iload_n K dX13_job_15 rfl rfl ?_
          refine j_if_le (tgt := 25) K dX13_job_16 rfl (by omega) (fun c_16 => ?_) (fun c_16 => ?_)
          · exact absurd c_16 (by omega)
          · refine z_aload_n K dX13_job_19 rfl rfl rfl ?_
            refine j_bipush K dX13_job_20 (by decide +kernel) ?_
            refine z_callV K (k1) cV_X13_48_X13 (oH_r) rfl rfl rfl (by omega) (by omega) (by omega) (Nat.le_of_ble_eq_true rfl) dX13_job_22 zvX (zvK ?_)
            exact at25 (p + 1) (by omega) (if_pos hk1) (fun z => z.2 d) _ ⟨rfl, rfl, rfl, trivial⟩
      · have eh : hdL t n (j + 1) k f p = .inr p := by
          show (if _ then _ else _) = _
          rw [if_pos ⟨hk1, d⟩]
        have k1 := mN f p 44 hp (by omega) d
        refine z_iload_n K dX13_job_10 rfl rfl ?_
        refine j_iconst K dX13_job_11 ?_
        refine j_icmp_ge (tgt := 41) K dX13_job_12 rfl (by omega) (by omega) (fun c_12 => ?_) (fun c_12 => ?_)
        · exact absurd c_12 (by omega)
        · refine z_iload_n K dX13_job_15 rfl rfl ?_
          refine j_if_le (tgt := 25) K dX13_job_16 rfl (by omega) (fun c_16 => ?_) (fun c_16 => ?_)
          · exact absurd c_16 (by omega)
          · refine z_aload_n K dX13_job_19 rfl rfl rfl ?_
            refine j_bipush K dX13_job_20 (by decide +kernel) ?_
            refine z_callV K k1 cV_X13_48_X13 oH_r rfl rfl rfl (by omega) (by omega) (by omega) (Nat.le_of_ble_eq_true rfl) dX13_job_22 (fun q' h1 hq' => ?_) (fun v h1 hv => by cases hv.1)
            obtain ⟨e1, e2⟩ := hq'
            cases e1
            rw [e2]
            exact z_out K rfl (by omega) (by omega) (hX f p eh)
    · refine z_iload_n K dX13_job_10 rfl rfl ?_
      refine j_iconst K dX13_job_11 ?_
      refine j_icmp_ge (tgt := 41) K dX13_job_12 rfl (by omega) (by omega) (fun c_12 => ?_) (fun c_12 => ?_)
      · exact absurd c_12 (by omega)
      · refine z_iload_n K dX13_job_15 rfl rfl ?_
        refine j_if_le (tgt := 25) K dX13_job_16 rfl (by omega) (fun c_16 => ?_) (fun c_16 => ?_)
        · exact at25 p hp (if_neg hk1) (fun z => hk1 z.1) _ ⟨rfl, rfl, rfl, trivial⟩
        · exact absurd c_16 (by omega)
end XRh

