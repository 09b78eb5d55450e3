/-! ===== the picture of a shop: reading and setting ===== -/
theorem tsF {u : tW} {f g i j : Nat} {v : Int} (h : g ≠ f) : tset u f i v g j = u g j := by
  unfold tset
  rw [if_neg (fun q => h q.1)]
theorem tsN {u : tW} {f g i j : Nat} {v : Int} (h : j ≠ i) : tset u f i v g j = u g j := by
  unfold tset
  rw [if_neg (fun q => h q.2)]
theorem tsS {u : tW} {f i : Nat} {v : Int} : tset u f i v f i = v := by
  unfold tset
  rw [if_pos ⟨rfl, rfl⟩]
theorem tsG {u : tW} {f g i : Nat} {v : Int} (h : g ≠ f) : tset u f i v g = u g := by
  funext j
  exact tsF h
theorem tsP {u : tW} {f i : Nat} {v : Int} : tset u f i v f = sup (u f) i v := by
  funext j
  by_cases h : j = i
  · subst h; rw [tsS, sup_s]
  · rw [tsN h, sup_n h]
/-- where the cell i stands -/
theorem sReg {i : Nat} (hi : i < 72) : (i = 0 ∨ i = 1 ∨ i = 2 ∨ i = 3 ∨ i = 4 ∨ i = 5 ∨ i = 6 ∨ i = 7 ∨ i = 8 ∨ i = 9) ∨ (∃ j, j < 4 ∧ i = 10 + j) ∨ (∃ j, j < 4 ∧ i = 14 + j) ∨ (i = 18 ∨ i = 19) ∨ (∃ j, j < 4 ∧ i = 20 + j) ∨ (∃ j, j < 4 ∧ i = 24 + j) ∨ (∃ j, j < 4 ∧ i = 28 + j) ∨ (∃ j, j < 5 ∧ i = 32 + j) ∨ (∃ j, j < 5 ∧ i = 37 + j) ∨ (∃ j, j < 5 ∧ i = 42 + j) ∨ (∃ j, j < 5 ∧ i = 47 + j) ∨ (∃ j, j < 20 ∧ i = 52 + j) := by
  by_cases h1 : i < 10
  · exact Or.inl (by omega)
  by_cases h2 : i < 14
  · exact Or.inr (Or.inl ⟨i - 10, by omega, by omega⟩)
  by_cases h3 : i < 18
  · exact Or.inr (Or.inr (Or.inl ⟨i - 14, by omega, by omega⟩))
  by_cases h4 : i < 20
  · exact Or.inr (Or.inr (Or.inr (Or.inl (by omega))))
  by_cases h5 : i < 24
  · exact Or.inr (Or.inr (Or.inr (Or.inr (Or.inl ⟨i - 20, by omega, by omega⟩))))
  by_cases h6 : i < 28
  · exact Or.inr (Or.inr (Or.inr (Or.inr (Or.inr (Or.inl ⟨i - 24, by omega, by omega⟩)))))
  by_cases h7 : i < 32
  · exact Or.inr (Or.inr (Or.inr (Or.inr (Or.inr (Or.inr (Or.inl ⟨i - 28, by omega, by omega⟩))))))
  by_cases h8 : i < 37
  · exact Or.inr (Or.inr (Or.inr (Or.inr (Or.inr (Or.inr (Or.inr (Or.inl ⟨i - 32, by omega, by omega⟩)))))))
  by_cases h9 : i < 42
  · exact Or.inr (Or.inr (Or.inr (Or.inr (Or.inr (Or.inr (Or.inr (Or.inr (Or.inl ⟨i - 37, by omega, by omega⟩))))))))
  by_cases h10 : i < 47
  · exact Or.inr (Or.inr (Or.inr (Or.inr (Or.inr (Or.inr (Or.inr (Or.inr (Or.inr (Or.inl ⟨i - 42, by omega, by omega⟩)))))))))
  by_cases h11 : i < 52
  · exact Or.inr (Or.inr (Or.inr (Or.inr (Or.inr (Or.inr (Or.inr (Or.inr (Or.inr (Or.inr (Or.inl ⟨i - 47, by omega, by omega⟩))))))))))
  · exact Or.inr (Or.inr (Or.inr (Or.inr (Or.inr (Or.inr (Or.inr (Or.inr (Or.inr (Or.inr (Or.inr ⟨i - 52, by omega, by omega⟩))))))))))
/-- two worlds that agree where the cell i looks -/
theorem sC_eq {b : Nat} {u w : tW} {i : Nat} (hi : i < 72) (c0 : w 0 0 = u 0 0) (c1 : w 0 1 = u 0 1) (e5 : i = 0 → ∀ j, j < 4 → w 5 j = u 5 j) (e6 : ∀ j, w 6 j = u 6 j ∨ (i ≠ 1 ∨ j ≠ 0) ∧ (i ≠ 3 ∨ j ≠ 1) ∧ (i ≠ 8 ∨ j ≠ 2) ∧ (i ≠ 18 ∨ j ≠ 3) ∧ (i + 4 ≠ 10 + j ∨ j < 4 ∨ 8 ≤ j) ∧ (i + 8 ≠ 42 + j ∨ j < 8))
    (e7 : i = 7 → ∀ c, c < 9 → w 0 (142 + c) = u 0 (142 + c)) (eb : ∀ m, m < 4 → i = 10 + m ∨ i = 14 + m → w 7 m = u 7 m ∧ w 0 (151 + m) = u 0 (151 + m)) (eb2 : ∀ m, m < 4 → i = 14 + m → ∀ q, w 8 (3 * m + q) = u 8 (3 * m + q))
    (eo : ∀ m, m < 4 → i = 20 + m → w 0 (179 + m) = u 0 (179 + m)) (er : ∀ m, m < 4 → i = 24 + m → ∀ p, p < 5 → w 0 (183 + 5 * m + p) = u 0 (183 + 5 * m + p)) (et : ∀ f, f < 4 → i = 28 + f → w (1 + f) = u (1 + f))
    (ev : ∀ j, j < 5 → i = 37 + j → ∀ q, q < 3 → w 0 (2 + 5 * q + j) = u 0 (2 + 5 * q + j)) (el : ∀ j, j < 5 → i = 42 + j ∨ i = 47 + j → w 0 (17 + j) = u 0 (17 + j)) (es : ∀ j, j < 5 → i = 47 + j → ∀ q : Nat, (q : Int) < u 0 (17 + j) → w 0 (22 + 4 * j + q) = u 0 (22 + 4 * j + q))
    (ek : ∀ k, k < 20 → i = 52 + k → w 0 (42 + k) = u 0 (42 + k) ∧ w 0 (62 + k) = u 0 (62 + k) ∧ w 0 (102 + k) = u 0 (102 + k) ∧ w 0 (122 + k) = u 0 (122 + k) ∧ w 0 (82 + k) = u 0 (82 + k)) : sC b w i = sC b u i := by
  have f6 : ∀ j, ¬ ((i ≠ 1 ∨ j ≠ 0) ∧ (i ≠ 3 ∨ j ≠ 1) ∧ (i ≠ 8 ∨ j ≠ 2) ∧ (i ≠ 18 ∨ j ≠ 3) ∧ (i + 4 ≠ 10 + j ∨ j < 4 ∨ 8 ≤ j) ∧ (i + 8 ≠ 42 + j ∨ j < 8)) → w 6 j = u 6 j := fun j h => (e6 j).resolve_right h
  rcases sReg hi with h | ⟨j, hj, rfl⟩ | ⟨j, hj, rfl⟩ | h | ⟨j, hj, rfl⟩ | ⟨j, hj, rfl⟩ | ⟨j, hj, rfl⟩ | ⟨j, hj, rfl⟩ | ⟨j, hj, rfl⟩ | ⟨j, hj, rfl⟩ | ⟨j, hj, rfl⟩ | ⟨j, hj, rfl⟩
  · rcases h with rfl | rfl | rfl | rfl | rfl | rfl | rfl | rfl | rfl | rfl
    · rw [sC_0, sC_0]
      have e5 := e5 rfl
      unfold sF
      rw [e5 0 (by omega), e5 1 (by omega), e5 2 (by omega), e5 3 (by omega)]
    · rw [sC_1, sC_1, c0, f6 0 (by omega)]
    · rw [sC_2, sC_2, c0]
    · rw [sC_3, sC_3, c1, f6 1 (by omega)]
    · rw [sC_4, sC_4, c1]
    · rw [sC_5, sC_5, c1]
    · rw [sC_6, sC_6, c1]
    · rw [sC_7, sC_7, aI_congr (fun c hc => e7 rfl c hc)]
    · rw [sC_8, sC_8, f6 2 (by omega)]
    · rw [sC_9, sC_9]
  · rw [sC_10 hj, sC_10 hj, (eb j hj (Or.inl rfl)).1, (eb j hj (Or.inl rfl)).2, f6 (4 + j) (by omega)]
  · rw [sC_14 hj, sC_14 hj, (eb j hj (Or.inr rfl)).1, (eb j hj (Or.inr rfl)).2]
    rw [aR_congr rfl (fun q _ => by rw [eb2 j hj rfl q])]
  · rcases h with rfl | rfl
    · rw [sC_18, sC_18, f6 3 (by omega)]
    · rw [sC_19, sC_19]
  · rw [sC_20 hj, sC_20 hj, eo j hj rfl]
  · rw [sC_24 hj, sC_24 hj, aI_congr (fun p hp => er j hj rfl p hp)]
  · rw [sC_28 hj, sC_28 hj, et j hj rfl]
  · rw [sC_32 hj, sC_32 hj, c0]
  · rw [sC_37 hj, sC_37 hj, c0, aI_congr (fun q hq => ev j hj rfl q hq)]
  · rw [sC_42 hj, sC_42 hj, c0, el j hj (Or.inl rfl), f6 (8 + j) (by omega)]
  · rw [sC_47 hj, sC_47 hj, c0, el j hj (Or.inr rfl)]
    rw [aR_congr rfl (fun q hq => by rw [es j hj rfl q (by omega)])]
  · rw [sC_52 hj, sC_52 hj, c1, (ek j hj rfl).1, (ek j hj rfl).2.1, (ek j hj rfl).2.2.1, (ek j hj rfl).2.2.2.1, (ek j hj rfl).2.2.2.2]
/-- a number of the row changes, not one of the two counts -/
theorem sC_ts {b : Nat} {u : tW} {q : Nat} {v : Int} {i : Nat} (hi : i < 72) (h2 : 2 ≤ q) (h7 : i = 7 → q < 142 ∨ 151 ≤ q) (hb : ∀ m, m < 4 → i = 10 + m ∨ i = 14 + m → q ≠ 151 + m) (ho : ∀ m, m < 4 → i = 20 + m → q ≠ 179 + m) (hr : ∀ m, m < 4 → i = 24 + m → q < 183 + 5 * m ∨ 188 + 5 * m ≤ q) (hv : ∀ j, j < 5 → i = 37 + j → q ≠ 2 + j ∧ q ≠ 7 + j ∧ q ≠ 12 + j) (hl : ∀ j, j < 5 → i = 42 + j ∨ i = 47 + j → q ≠ 17 + j) (hs : ∀ j, j < 5 → i = 47 + j → ∀ p : Nat, (p : Int) < u 0 (17 + j) → q ≠ 22 + 4 * j + p) (hk : ∀ k, k < 20 → i = 52 + k → q ≠ 42 + k ∧ q ≠ 62 + k ∧ q ≠ 102 + k ∧ q ≠ 122 + k ∧ q ≠ 82 + k) : sC b (tset u 0 q v) i = sC b u i := by
  refine sC_eq hi (tsN (by omega)) (tsN (by omega)) (fun _ j _ => tsF (by decide)) (fun j => Or.inl (tsF (by decide))) (fun e c hc => tsN (by have := h7 e; omega)) (fun m hm e => ⟨tsF (by decide), tsN (by have := hb m hm e; omega)⟩) (fun m hm e q => tsF (by decide)) (fun m hm e => tsN (by have := ho m hm e; omega)) (fun m hm e p hp => tsN (by have := hr m hm e; omega)) (fun f hf e => tsG (by omega)) (fun j hj e q hq => tsN (by have := hv j hj e; omega)) (fun j hj e => tsN (by have := hl j hj e; omega)) (fun j hj e p hp => tsN (by have := hs j hj e p hp; omega)) (fun k hk2 e => ?_)
  have h := hk k hk2 e
  exact ⟨tsN (by omega), tsN (by omega), tsN (by omega), tsN (by omega), tsN (by omega)⟩
/-- .. where the jobs are in order -/
theorem sC_tj {b : Nat} {u : tW} {q : Nat} {v : Int} {i : Nat} (hJ : WfJ (u 0)) (hi : i < 72) (h2 : 2 ≤ q) (h7 : i = 7 → q < 142 ∨ 151 ≤ q) (hb : ∀ m, m < 4 → i = 10 + m ∨ i = 14 + m → q ≠ 151 + m) (ho : ∀ m, m < 4 → i = 20 + m → q ≠ 179 + m) (hr : ∀ m, m < 4 → i = 24 + m → q < 183 + 5 * m ∨ 188 + 5 * m ≤ q) (hv : ∀ j, j < 5 → i = 37 + j → q ≠ 2 + j ∧ q ≠ 7 + j ∧ q ≠ 12 + j) (hl : ∀ j, j < 5 → i = 42 + j ∨ i = 47 + j → q ≠ 17 + j) (hs : ∀ j, j < 5 → i = 47 + j → ∀ p : Nat, p < 4 → q ≠ 22 + 4 * j + p) (hk : ∀ k, k < 20 → i = 52 + k → q ≠ 42 + k ∧ q ≠ 62 + k ∧ q ≠ 102 + k ∧ q ≠ 122 + k ∧ q ≠ 82 + k) : sC b u i = sC b (tset u 0 q v) i := by
  by_cases hz : ∃ j, j < 5 ∧ i = 47 + j ∧ ¬ (j : Int) < u 0 0
  · obtain ⟨j, hj, rfl, hz⟩ := hz
    rw [sC_47 hj, sC_47 hj, tsN (by omega), if_neg (fun q => hz q.1), if_neg (fun q => hz q.1)]
  · refine (sC_ts hi h2 h7 hb ho hr hv hl (fun j hj e p hp => ?_) hk).symm
    have h1 : (j : Int) < u 0 0 := Classical.not_not.mp fun h9 => hz ⟨j, hj, e, h9⟩
    have h3 := (hJ.2 j (by omega) h1).2.2.2.2
    have h4 : sLen (u 0) j = u 0 (17 + j) := congrArg (u 0) (by omega)
    rw [h4] at h3
    exact hs j hj e p (by omega)
/-! setting -/
theorem sH_row {b : Nat} {u : tW} {g : zH} {m p : Int} {v : Int} (hJ : WfJ (u 0)) (hm : 0 ≤ m ∧ m ≤ 3) (hp : 0 ≤ p ∧ p < 5) : zup (sH b u g) (b + 24 + m.toNat) (aI 5 (sup (fun q => u 0 (183 + 5 * m.toNat + q)) p.toNat v)) = sH b (tset u 0 (183 + 5 * m + p).toNat v) g := by
  have e : (183 + 5 * m + p).toNat = 183 + 5 * m.toNat + p.toNat := by omega
  rw [e, Nat.add_assoc b 24]
  refine sH_up (by omega) ?_ (fun i hi hne => sC_tj hJ hi (by omega) (by omega) (by omega) (by omega) (by omega) (by omega) (by omega) (by omega) (by omega))
  rw [sC_24 (by omega)]
  congr 1
  refine aI_congr fun q hq => ?_
  by_cases hqp : q = p.toNat
  · rw [hqp, tsS, sup_s]
  · rw [tsN (by omega), sup_n hqp]
theorem sH_osz {b : Nat} {u : tW} {g : zH} {m : Int} {v : Int} (hJ : WfJ (u 0)) (hm : 0 ≤ m ∧ m ≤ 3) : zup (sH b u g) (b + 20 + m.toNat) (.inr (3, [.ref (b + 24 + m.toNat), .int (iI v)])) = sH b (tset u 0 (179 + m).toNat v) g := by
  have e : (179 + m).toNat = 179 + m.toNat := by omega
  rw [e, Nat.add_assoc b 20]
  refine sH_up (by omega) ?_ (fun i hi hne => sC_tj hJ hi (by omega) (by omega) (by omega) (by omega) (by omega) (by omega) (by omega) (by omega) (by omega))
  rw [sC_20 (by omega), tsS]
theorem sH_set {b : Nat} {u : tW} {g : zH} {c : Int} {v : Int} (hJ : WfJ (u 0)) (hc : 0 ≤ c ∧ c < 9) : zup (sH b u g) (b + 7) (aI 9 (sup (fun c => u 0 (142 + c)) c.toNat v)) = sH b (tset u 0 (142 + c).toNat v) g := by
  have e : (142 + c).toNat = 142 + c.toNat := by omega
  rw [e]
  refine sH_up (by omega) ?_ (fun i hi hne => sC_tj hJ hi (by omega) (by omega) (by omega) (by omega) (by omega) (by omega) (by omega) (by omega) (by omega))
  rw [sC_7]
  congr 1
  refine aI_congr fun q hq => ?_
  by_cases hqp : q = c.toNat
  · rw [hqp, tsS, sup_s]
  · rw [tsN (by omega), sup_n hqp]
theorem sH_val {b : Nat} {u : tW} {g : zH} {j q : Int} {v : Int} (hJ : WfJ (u 0)) (hj : 0 ≤ j ∧ j < u 0 0) (hq : 0 ≤ q ∧ q < 3) : zup (sH b u g) (b + 37 + j.toNat) (aI 3 (sup (fun c => u 0 (2 + 5 * c + j.toNat)) q.toNat v)) = sH b (tset u 0 (2 + 5 * q + j).toNat v) g := by
  have h5 := hJ.1
  have e : (2 + 5 * q + j).toNat = 2 + 5 * q.toNat + j.toNat := by omega
  rw [e, Nat.add_assoc b 37]
  refine sH_up (by omega) ?_ (fun i hi hne => sC_tj hJ hi (by omega) (by omega) (by omega) (by omega) (by omega) (by omega) (by omega) (by omega) (by omega))
  rw [sC_37 (by omega), tsN (by omega), if_pos (by omega)]
  congr 1
  refine aI_congr fun c hc => ?_
  by_cases hqp : c = q.toNat
  · rw [hqp, tsS, sup_s]
  · rw [tsN (by omega), sup_n hqp]
theorem sH_dur {b : Nat} {u : tW} {g : zH} {k : Int} {v : Int} (hJ : WfJ (u 0)) (hk : 0 ≤ k ∧ k < u 0 1) (h20 : u 0 1 ≤ 20) : zup (sH b u g) (b + 52 + k.toNat) (.inr (5, [.int (iI k), .int (iI (u 0 (42 + k).toNat)), .int (iI (u 0 (62 + k).toNat)), .int (iI (u 0 (102 + k).toNat)), .int (iI (u 0 (122 + k).toNat)), .int (iI v)])) = sH b (tset u 0 (82 + k).toNat v) g := by
  have e : (82 + k).toNat = 82 + k.toNat := by omega
  have e1 : (42 + k).toNat = 42 + k.toNat := by omega
  have e2 : (62 + k).toNat = 62 + k.toNat := by omega
  have e3 : (102 + k).toNat = 102 + k.toNat := by omega
  have e4 : (122 + k).toNat = 122 + k.toNat := by omega
  rw [e, e1, e2, e3, e4, Nat.add_assoc b 52]
  refine sH_up (by omega) ?_ (fun i hi hne => sC_tj hJ hi (by omega) (by omega) (by omega) (by omega) (by omega) (by omega) (by omega) (by omega) (by omega))
  rw [sC_52 (by omega), tsN (by omega), if_pos (by omega), tsN (by omega), tsN (by omega), tsN (by omega), tsN (by omega), tsS, show ((k.toNat : Nat) : Int) = k by omega]
/-- the rows before, ready, start, end -/
theorem sH_tim {b : Nat} {u : tW} {g : zH} {f : Nat} {k : Nat} {v : Int} (hf : f < 4) : zup (sH b u g) (b + (28 + f)) (aI 20 (sup (u (1 + f)) k v)) = sH b (tset u (1 + f) k v) g := by
  refine sH_up (by omega) ?_ (fun i hi hne => ?_)
  · rw [sC_28 (by omega), tsP]
  · refine (sC_eq hi (tsF (by omega)) (tsF (by omega)) (fun _ j _ => tsF (by omega)) (fun j => Or.inl (tsF (by omega))) (fun _ c hc => tsF (by omega)) (fun m hm e => ⟨tsF (by omega), tsF (by omega)⟩) (fun m hm e q => tsF (by omega)) (fun m hm e => tsF (by omega)) (fun m hm e p hp => tsF (by omega)) (fun f' hf' e => tsG (by omega)) (fun j hj e q hq => tsF (by omega)) (fun j hj e => tsF (by omega)) (fun j hj e p hp => tsF (by omega)) (fun k hk2 e => ⟨tsF (by omega), tsF (by omega), tsF (by omega), tsF (by omega), tsF (by omega)⟩)).symm
/-- the numbers of the shop itself -/
theorem sH_num {b : Nat} {u : tW} {g : zH} {i : Nat} {v : Int} (hi : i < 4) : zup (sH b u g) b (.inr (2, (sF b u).set (9 + i) (.int (iI v)))) = sH b (tset u 5 i v) g := by
  have h0 : ∀ c, zup (sH b u g) b c = zup (sH b u g) (b + 0) c := fun c => rfl
  rw [h0]
  refine sH_up (by omega) ?_ (fun i hi hne => ?_)
  · rw [sC_0]
    congr 3
    unfold sF
    rcases (by omega : i = 0 ∨ i = 1 ∨ i = 2 ∨ i = 3) with rfl | rfl | rfl | rfl
    · rw [tsS, tsN (by decide), tsN (by decide), tsN (by decide)]; rfl
    · rw [tsS, tsN (by decide), tsN (by decide), tsN (by decide)]; rfl
    · rw [tsS, tsN (by decide), tsN (by decide), tsN (by decide)]; rfl
    · rw [tsS, tsN (by decide), tsN (by decide), tsN (by decide)]; rfl
  · refine (sC_eq hi (tsF (by omega)) (tsF (by omega)) (fun e => absurd e hne) (fun j => Or.inl (tsF (by omega))) (fun _ c hc => tsF (by omega)) (fun m hm e => ⟨tsF (by omega), tsF (by omega)⟩) (fun m hm e q => tsF (by omega)) (fun m hm e => tsF (by omega)) (fun m hm e p hp => tsF (by omega)) (fun f' hf' e => tsG (by omega)) (fun j hj e q hq => tsF (by omega)) (fun j hj e => tsF (by omega)) (fun j hj e p hp => tsF (by omega)) (fun k hk2 e => ⟨tsF (by omega), tsF (by omega), tsF (by omega), tsF (by omega), tsF (by omega)⟩)).symm
/-! reading -/
theorem sH_shop {b : Nat} {u : tW} {g : zH} : sH b u g b = some (.inr (2, sF b u)) := sH_in (b := b) 0 (by omega)
theorem sH_brk {b : Nat} {u : tW} {g : zH} {m : Int} (hm : 0 ≤ m ∧ m ≤ 3) : sH b u g (b + 10 + m.toNat) = some (oL (u 6 (4 + m.toNat)) (if u 7 m.toNat = 0 then 1 else b + 14 + m.toNat) (u 0 (151 + m).toNat)) := by
  rw [Nat.add_assoc b 10, sH_in _ (by omega), sC_10 (by omega), show 151 + m.toNat = (151 + m).toNat by omega]
theorem sH_brA {b : Nat} {u : tW} {g : zH} {m : Int} (hm : 0 ≤ m ∧ m ≤ 3) (h7 : u 7 m.toNat ≠ 0) : sH b u g (b + 14 + m.toNat) = some (aR 10 (u 0 (151 + m).toNat).toNat fun q => (u 8 (3 * m.toNat + q)).toNat) := by
  rw [Nat.add_assoc b 14, sH_in _ (by omega), sC_14 (by omega), if_neg h7, show 151 + m.toNat = (151 + m).toNat by omega]
theorem sH_ord {b : Nat} {u : tW} {g : zH} {m : Int} (hm : 0 ≤ m ∧ m ≤ 3) : sH b u g (b + 20 + m.toNat) = some (.inr (3, [.ref (b + 24 + m.toNat), .int (iI (u 0 (179 + m).toNat))])) := by
  rw [Nat.add_assoc b 20, sH_in _ (by omega), sC_20 (by omega), show 179 + m.toNat = (179 + m).toNat by omega]
theorem sH_orA {b : Nat} {u : tW} {g : zH} {m : Int} (hm : 0 ≤ m ∧ m ≤ 3) : sH b u g (b + 24 + m.toNat) = some (aI 5 fun q => u 0 (183 + 5 * m.toNat + q)) := by
  rw [Nat.add_assoc b 24, sH_in _ (by omega), sC_24 (by omega)]
theorem sH_job {b : Nat} {u : tW} {g : zH} {j : Int} (hj : 0 ≤ j ∧ j < u 0 0) (h5 : u 0 0 ≤ 5) : sH b u g (b + 32 + j.toNat) = some (.inr (4, [.ref (b + 37 + j.toNat), .ref (b + 42 + j.toNat)])) := by
  rw [Nat.add_assoc b 32, sH_in _ (by omega), sC_32 (by omega), if_pos (by omega)]
theorem sH_jbV {b : Nat} {u : tW} {g : zH} {j : Int} (hj : 0 ≤ j ∧ j < u 0 0) (h5 : u 0 0 ≤ 5) : sH b u g (b + 37 + j.toNat) = some (aI 3 fun q => u 0 (2 + 5 * q + j.toNat)) := by
  rw [Nat.add_assoc b 37, sH_in _ (by omega), sC_37 (by omega), if_pos (by omega)]
theorem sH_jbL {b : Nat} {u : tW} {g : zH} {j : Int} (hj : 0 ≤ j ∧ j < u 0 0) (h5 : u 0 0 ≤ 5) : sH b u g (b + 42 + j.toNat) = some (oL (u 6 (8 + j.toNat)) (if u 0 (17 + j).toNat = 0 then 1 else b + 47 + j.toNat) (u 0 (17 + j).toNat)) := by
  rw [Nat.add_assoc b 42, sH_in _ (by omega), sC_42 (by omega), if_pos (by omega), show 17 + j.toNat = (17 + j).toNat by omega]
theorem sH_jbA {b : Nat} {u : tW} {g : zH} {j : Int} (hj : 0 ≤ j ∧ j < u 0 0) (h5 : u 0 0 ≤ 5) (hl : u 0 (17 + j).toNat ≠ 0) : sH b u g (b + 47 + j.toNat) = some (aR 10 (u 0 (17 + j).toNat).toNat fun q => b + 52 + (u 0 (22 + 4 * j.toNat + q)).toNat) := by
  have e : 17 + j.toNat = (17 + j).toNat := by omega
  rw [Nat.add_assoc b 47, sH_in _ (by omega), sC_47 (by omega), e, if_pos ⟨by omega, hl⟩]
theorem sH_op {b : Nat} {u : tW} {g : zH} {k : Int} (hk : 0 ≤ k ∧ k < u 0 1) (h20 : u 0 1 ≤ 20) : sH b u g (b + 52 + k.toNat) = some (.inr (5, [.int (iI k), .int (iI (u 0 (42 + k).toNat)), .int (iI (u 0 (62 + k).toNat)), .int (iI (u 0 (102 + k).toNat)), .int (iI (u 0 (122 + k).toNat)), .int (iI (u 0 (82 + k).toNat))])) := by
  have e : (82 + k).toNat = 82 + k.toNat := by omega
  have e1 : (42 + k).toNat = 42 + k.toNat := by omega
  have e2 : (62 + k).toNat = 62 + k.toNat := by omega
  have e3 : (102 + k).toNat = 102 + k.toNat := by omega
  have e4 : (122 + k).toNat = 122 + k.toNat := by omega
  rw [e, e1, e2, e3, e4, Nat.add_assoc b 52, sH_in _ (by omega), sC_52 (by omega), if_pos (by omega), show ((k.toNat : Nat) : Int) = k by omega]
theorem sH_jobs {b : Nat} {u : tW} {g : zH} : sH b u g (b + 1) = some (oL (u 6 0) (if u 0 0 = 0 then 1 else b + 2) (u 0 0)) := sH_in 1 (by omega)
theorem sH_ops {b : Nat} {u : tW} {g : zH} : sH b u g (b + 3) = some (oL (u 6 1) (if u 0 1 = 0 then 1 else if u 0 1 ≤ 10 then b + 4 else if u 0 1 ≤ 15 then b + 5 else b + 6) (u 0 1)) := sH_in 3 (by omega)
theorem sH_sets {b : Nat} {u : tW} {g : zH} : sH b u g (b + 7) = some (aI 9 fun c => u 0 (142 + c)) := sH_in 7 (by omega)
theorem sH_brks {b : Nat} {u : tW} {g : zH} : sH b u g (b + 8) = some (oL (u 6 2) (b + 9) 4) := sH_in 8 (by omega)
theorem sH_ords {b : Nat} {u : tW} {g : zH} : sH b u g (b + 18) = some (oL (u 6 3) (b + 19) 4) := sH_in 18 (by omega)
theorem sH_28 {b : Nat} {u : tW} {g : zH} : sH b u g (b + 28) = some (aI 20 (u 1)) := sH_in 28 (by omega)
theorem sH_29 {b : Nat} {u : tW} {g : zH} : sH b u g (b + 29) = some (aI 20 (u 2)) := sH_in 29 (by omega)
theorem sH_30 {b : Nat} {u : tW} {g : zH} : sH b u g (b + 30) = some (aI 20 (u 3)) := sH_in 30 (by omega)
theorem sH_31 {b : Nat} {u : tW} {g : zH} : sH b u g (b + 31) = some (aI 20 (u 4)) := sH_in 31 (by omega)
