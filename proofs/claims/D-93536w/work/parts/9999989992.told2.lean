/-! ===== what is told: bounds, and the list of it (plain) ===== -/
section RTk
variable {t : Nat → Int} {n : Nat}
theorem hdL_v : ∀ (j : Nat) (k : Int) (f : Nat → Int) (p : Int) (f' : Nat → Int) (q : Int), 0 ≤ k → (∀ i : Nat, (i : Int) < k → 0 ≤ f i ∧ f i ≤ 999) → hdL t n j k f p = .inl (f', q) → ∀ i : Nat, (i : Int) < k + j → 0 ≤ f' i ∧ f' i ≤ 999
  | 0, k, f, p, f', q, _, hf, h, i, hi => by
    unfold hdL at h
    cases h
    exact hf i (by omega)
  | j + 1, k, f, p, f', q, hk, hf, h, i, hi => by
    rw [hdL] at h
    generalize (if 0 < k then p + 1 else p) = p1 at h
    split at h
    · cases h
    · split at h
      · cases h
      · rename_i d
        have v := nmR_v (Decidable.not_not.mp d)
        refine hdL_v j (k + 1) _ _ f' q (by omega) (fun y hy => ?_) h i (by omega)
        by_cases c : y = k.toNat
        · rw [c, sup_s]; exact v
        · rw [sup_n c]; exact hf y (by omega)
def okO (x : Int × Int × Int) : Prop := (0 ≤ x.1 ∧ x.1 ≤ 9) ∧ (0 ≤ x.2.1 ∧ x.2.1 ≤ 999) ∧ 0 ≤ x.2.2 ∧ x.2.2 ≤ 9
theorem opA_v : ∀ (j k : Nat) (o : Nat → Int × Int × Int) (p : Int) (k' : Nat) (o' : Nat → Int × Int × Int) (q : Int), (∀ i, i < k → okO (o i)) → opA t n j k o p = .inl (k', o', q) → ∀ i, i < k' → okO (o' i)
  | 0, k, o, p, k', o', q, _, h => by
    unfold opA at h
    cases h
  | j + 1, k, o, p, k', o', q, hk, h => by
    unfold opA at h
    split at h
    · cases h
    · rename_i m u f e hq
      have b := opP_ok hq
      have hk' : ∀ i, i < k + 1 → okO (if i = k then (m, u, f) else o i) := fun i hi => by
        by_cases c : i = k
        · rw [if_pos c]; exact ⟨b.1, b.2.1, b.2.2.1⟩
        · rw [if_neg c]; exact hk i (by omega)
      split at h
      · exact opA_v j (k + 1) _ _ k' o' q hk' h
      · cases h
        exact hk'
theorem jbP_t {p : Int} {f : Nat → Int} {k : Nat} {o : Nat → Int × Int × Int} {q : Int} (e : jbP t n p = .inl (f, k, o, q)) : tOk (f, k, o) := by
  have hk := jbP_k e
  unfold jbP at e
  split at e
  · cases e
  · rename_i f1 q1 h1
    split at e
    · cases e
    · split at e
      · cases e
      · rename_i k2 o2 e2 h2
        cases e
        exact ⟨fun i hi => hdL_v 3 0 _ _ f q1 (by omega) (fun y hy => by omega) h1 i (by omega), hk, opA_v 20 0 _ _ k o q (fun i hi => by omega) h2⟩
theorem rdA_v : ∀ (r i : Nat) (J : Nat → tTJ) (p : Int) (x : Nat × (Nat → tTJ)), p ≤ n → 7 * (i : Int) ≤ p → (∀ y, y < i → tOk (J y)) → rdA t n r i J p = .inl x → (∀ y, y < x.1 → tOk (x.2 y)) ∧ 7 * (x.1 : Int) ≤ n + 1 ∧ 1 ≤ x.1
  | 0, i, J, p, x, _, _, _, h => by
    unfold rdA at h
    cases h
  | r + 1, i, J, p, x, hp, hi, hJ, h => by
    unfold rdA at h
    split at h
    · cases h
    · rename_i f k o q hq
      have b := (jbP_p hp).1 f k o q hq
      have hJ' : ∀ y, y < i + 1 → tOk ((fun x => if x = i then (f, k, o) else J x) y) := fun y hy => by
        dsimp only
        by_cases c : y = i
        · rw [if_pos c]; exact jbP_t hq
        · rw [if_neg c]; exact hJ y (by omega)
      split at h
      · rename_i c
        have := hrC.lt c (by decide)
        exact rdA_v r (i + 1) _ (q + 1) x (by omega) (by omega) hJ' h
      · split at h
        · cases h
        · cases h
          exact ⟨hJ', by show 7 * (((i + 1 : Nat)) : Int) ≤ n + 1; omega, by show 1 ≤ i + 1; omega⟩
end RTk
section RTl
variable {h h' : zH} {N r s i b : Nat} {J : Nat → tTJ} {q : Int}
theorem lA_r {L k : Nat} (h : 0 < k) : L < lA L k ∧ lA L k < L + 4 := by
  unfold lA
  rw [if_neg (by omega)]
  split
  · omega
  · split <;> omega
theorem jsH_TL (e : r < N) (hi : 1 ≤ i ∧ i ≤ 12) (hok : ∀ y, y < i → tOk (J y)) (hh : ∀ m, N ≤ m → m < N + 4 + 30 * i → h' m = jsH h N r s i J q m) (hb : N + 4 + 30 * i ≤ b) : TL h' N i (fun x => N + 4 + 30 * x) J b := by
  have la := lA_r (L := N) (k := i) (by omega)
  obtain ⟨K, k1, k2, k3⟩ := lH_a (L := N) (c := i) (n := i) (f := fun x => N + 4 + 30 * x) (g := jsC h N r s i J q) (by omega) (by omega)
  refine ⟨⟨i, lA N i, K, ?_, ?_, k2, by omega, by omega⟩, by omega, fun x hx => ⟨?_, by show N + 4 + 30 * x + 30 ≤ b; omega, hok x hx⟩⟩
  · rw [hh N (by omega) (by omega)]; exact lH_0
  · rw [hh (lA N i) (by omega) (by omega)]; exact k1
  · show TJ h' (N + 4 + 30 * x) (J x)
    have ok := hok x hx
    have cell : ∀ m, N + 4 + 30 * x ≤ m → m < N + 4 + 30 * (x + 1) → h' m = tjB (N + 4 + 30 * x) (J x) m := fun m m1 m2 => (hh m (by omega) (by omega)).trans (jsH_b e hx m1 m2)
    generalize hB : N + 4 + 30 * x = B at *
    have hB0 : 0 < B := by omega
    have hk := ok.2.1
    have lb := lA_r (L := B + 2) (k := (J x).2.1) (by omega)
    obtain ⟨K2, l1, l2, l3⟩ := lH_a (L := B + 2) (c := ((J x).2.1 : Nat)) (n := (J x).2.1) (f := fun y => B + 6 + y) (g := tjC (fun _ => none) B 0 0 (J x).1 (J x).2.1 (J x).2.2 0) (by omega) (by omega)
    refine ⟨?_, ?_, ⟨(J x).2.1, lA (B + 2) (J x).2.1, K2, ?_, ?_, l2, by omega, by omega, by omega⟩, fun y hy => ?_⟩
    · rw [cell B (by omega) (by omega)]; exact tjH_J hB0
    · rw [cell (B + 1) (by omega) (by omega)]; exact tjH_a hB0
    · rw [cell (B + 2) (by omega) (by omega)]; exact tjH_L
    · rw [cell _ (by omega) (by omega)]; exact l1
    · rw [cell (B + 6 + y) (by omega) (by omega)]; exact tjH_o hB0 hy
end RTl
