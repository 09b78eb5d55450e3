/-! ===== the picture of a shop: several cells change; a new operation, a new job ===== -/
theorem sH_fold {b : Nat} {u' : tW} {g : zH} : ∀ (l : List (Nat × zC)) (h : zH), (∀ p ∈ l, ∃ i, i < 72 ∧ p.1 = b + i ∧ sC b u' i = some p.2) → (∀ m, (∀ p ∈ l, m ≠ p.1) → h m = sH b u' g m) → l.foldl (fun h p => zup h p.1 p.2) h = sH b u' g
  | [], h, _, h2 => funext fun m => h2 m (fun p hp => absurd hp List.not_mem_nil)
  | q :: l, h, h1, h2 => by
    refine sH_fold l (zup h q.1 q.2) (fun p hp => h1 p (List.mem_cons_of_mem _ hp)) fun m hm => ?_
    by_cases e : m = q.1
    · obtain ⟨i, i0, i1, i2⟩ := h1 q List.mem_cons_self
      rw [e, zup_at, i1, sH_in _ i0, i2]
    · rw [zup_ne e]
      refine h2 m fun p hp => ?_
      rcases List.mem_cons.mp hp with z | z
      · rw [z]; exact e
      · exact hm p z
theorem sH_many {b : Nat} {u u' : tW} {g : zH} (l : List (Nat × zC)) (h1 : ∀ p ∈ l, ∃ i, i < 72 ∧ p.1 = b + i ∧ sC b u' i = some p.2) (h2 : ∀ i, i < 72 → (∀ p ∈ l, b + i ≠ p.1) → sC b u i = sC b u' i) : l.foldl (fun h p => zup h p.1 p.2) (sH b u g) = sH b u' g := by
  refine sH_fold l _ h1 fun m hm => ?_
  by_cases h : b ≤ m ∧ m < b + 72
  · obtain ⟨i, rfl⟩ : ∃ i, m = b + i := ⟨m - b, by omega⟩
    rw [sH_in _ (by omega), sH_in _ (by omega)]
    exact h2 i (by omega) hm
  · rw [sH_out (by omega), sH_out (by omega)]
/-- cells that don't look at the count of the operations, of the jobs -/
theorem sC_c1 {b : Nat} {u : tW} {v : Int} {i : Nat} (hi : i < 3 ∨ (7 ≤ i ∧ i < 52)) : sC b (tset u 0 1 v) i = sC b u i := by
  rcases sReg (i := i) (by omega) with h | ⟨j, hj, rfl⟩ | ⟨j, hj, rfl⟩ | h | ⟨j, hj, rfl⟩ | ⟨j, hj, rfl⟩ | ⟨j, hj, rfl⟩ | ⟨j, hj, rfl⟩ | ⟨j, hj, rfl⟩ | ⟨j, hj, rfl⟩ | ⟨j, hj, rfl⟩ | ⟨j, hj, rfl⟩
  · rcases h with rfl | rfl | rfl | rfl | rfl | rfl | rfl | rfl | rfl | rfl
    · rw [sC_0, sC_0]; rfl
    · rw [sC_1, sC_1]; rfl
    · rw [sC_2, sC_2]; rfl
    · omega
    · omega
    · omega
    · omega
    · rw [sC_7, sC_7, aI_congr (fun c hc => tsN (by omega))]
    · rw [sC_8, sC_8]; rfl
    · rw [sC_9, sC_9]
  · rw [sC_10 hj, sC_10 hj, tsF (show (6 : Nat) ≠ 0 by decide), tsF (show (7 : Nat) ≠ 0 by decide), tsN (show 151 + j ≠ _ by omega)]
  · rw [sC_14 hj, sC_14 hj, tsF (show (7 : Nat) ≠ 0 by decide), tsN (show 151 + j ≠ _ by omega)]; rfl
  · rcases h with rfl | rfl
    · rw [sC_18, sC_18]; rfl
    · rw [sC_19, sC_19]
  · rw [sC_20 hj, sC_20 hj, tsN (by omega)]
  · rw [sC_24 hj, sC_24 hj, aI_congr (fun p hp => tsN (by omega))]
  · rw [sC_28 hj, sC_28 hj, tsG (by omega)]
  · rw [sC_32 hj, sC_32 hj, tsN (by omega)]
  · rw [sC_37 hj, sC_37 hj, tsN (by omega), aI_congr (fun q hq => tsN (by omega))]
  · rw [sC_42 hj, sC_42 hj, tsN (show (0 : Nat) ≠ 1 by decide), tsF (show (6 : Nat) ≠ 0 by decide), tsN (show 17 + j ≠ 1 by omega)]
  · rw [sC_47 hj, sC_47 hj, tsN (by omega), tsN (by omega), aR_congr rfl (fun q hq => by rw [tsN (by omega)])]
  · omega
theorem sC_c0 {b : Nat} {u : tW} {v : Int} {i : Nat} (hi : i = 0 ∨ (3 ≤ i ∧ i < 32) ∨ (52 ≤ i ∧ i < 72)) : sC b (tset u 0 0 v) i = sC b u i := by
  rcases sReg (i := i) (by omega) with h | ⟨j, hj, rfl⟩ | ⟨j, hj, rfl⟩ | h | ⟨j, hj, rfl⟩ | ⟨j, hj, rfl⟩ | ⟨j, hj, rfl⟩ | ⟨j, hj, rfl⟩ | ⟨j, hj, rfl⟩ | ⟨j, hj, rfl⟩ | ⟨j, hj, rfl⟩ | ⟨j, hj, rfl⟩
  · rcases h with rfl | rfl | rfl | rfl | rfl | rfl | rfl | rfl | rfl | rfl
    · rw [sC_0, sC_0]; rfl
    · omega
    · omega
    · rw [sC_3, sC_3]; rfl
    · rw [sC_4, sC_4]; rfl
    · rw [sC_5, sC_5]; rfl
    · rw [sC_6, sC_6]; rfl
    · rw [sC_7, sC_7, aI_congr (fun c hc => tsN (by omega))]
    · rw [sC_8, sC_8]; rfl
    · rw [sC_9, sC_9]
  · rw [sC_10 hj, sC_10 hj, tsF (show (6 : Nat) ≠ 0 by decide), tsF (show (7 : Nat) ≠ 0 by decide), tsN (show 151 + j ≠ _ by omega)]
  · rw [sC_14 hj, sC_14 hj, tsF (show (7 : Nat) ≠ 0 by decide), tsN (show 151 + j ≠ _ by omega)]; rfl
  · rcases h with rfl | rfl
    · rw [sC_18, sC_18]; rfl
    · rw [sC_19, sC_19]
  · rw [sC_20 hj, sC_20 hj, tsN (by omega)]
  · rw [sC_24 hj, sC_24 hj, aI_congr (fun p hp => tsN (by omega))]
  · rw [sC_28 hj, sC_28 hj, tsG (by omega)]
  · omega
  · omega
  · omega
  · omega
  · rw [sC_52 hj, sC_52 hj, tsN (by omega), tsN (by omega), tsN (by omega), tsN (by omega), tsN (by omega), tsN (by omega)]
/-- the new operation's row, by natural numbers -/
theorem sNO_nat {s : Nat → Int} {j m k n L : Nat} {d f : Int} (hk : s 1 = k) (hL : s (17 + j) = L) (hn : s (179 + m) = n) : sNO s j m d f = fun i => if i = 1 then ((k : Int) + 1) else if i = 179 + m then ((n : Int) + 1) else if i = 183 + 5 * m + n then (k : Int) else if i = 17 + j then ((L : Int) + 1) else if i = 22 + 4 * j + L then (k : Int) else if i = 122 + k then (L : Int) else if i = 102 + k then f else if i = 82 + k then d else if i = 62 + k then (m : Int) else if i = 42 + k then (j : Int) else s i := by
  funext i
  have a : sOn s m = n := by rw [← hn]; exact congrArg s (by omega)
  have c : sLen s j = L := by rw [← hL]; exact congrArg s (by omega)
  unfold sNO
  rw [a, c, hk, show (179 + (m : Int)).toNat = 179 + m by omega, show (183 + 5 * (m : Int) + n).toNat = 183 + 5 * m + n by omega, show (17 + (j : Int)).toNat = 17 + j by omega, show (22 + 4 * (j : Int) + L).toNat = 22 + 4 * j + L by omega, show (122 + (k : Int)).toNat = 122 + k by omega, show (102 + (k : Int)).toNat = 102 + k by omega, show (82 + (k : Int)).toNat = 82 + k by omega, show (62 + (k : Int)).toNat = 62 + k by omega, show (42 + (k : Int)).toNat = 42 + k by omega]
/-- the world with a new operation -/
def wNO (u : tW) (j m : Nat) (d f : Int) : tW := fun q => if q = 0 then sNO (u 0) j m d f else if q = 6 then sup (sup (u 6) 1 (u 6 1 + 1)) (8 + j) (u 6 (8 + j) + 1) else u q
theorem wNO_0 {u : tW} {j m : Nat} {d f : Int} : wNO u j m d f 0 = sNO (u 0) j m d f := rfl
theorem wNO_6 {u : tW} {j m : Nat} {d f : Int} : wNO u j m d f 6 = sup (sup (u 6) 1 (u 6 1 + 1)) (8 + j) (u 6 (8 + j) + 1) := rfl
theorem wNO_f {u : tW} {j m : Nat} {d f : Int} {q : Nat} (h : q ≠ 0 ∧ q ≠ 6) : wNO u j m d f q = u q := by unfold wNO; rw [if_neg h.1, if_neg h.2]
/-- where the list of the operations keeps its array -/
def oAr (k : Nat) : Nat := if k ≤ 10 then 4 else if k ≤ 15 then 5 else 6
def oCp (k : Nat) : Nat := if k ≤ 10 then 10 else if k ≤ 15 then 15 else 22
theorem sH_newop {b : Nat} {u : tW} {g : zH} {j m k n L : Nat} {d f : Int} (hk : u 0 1 = k) (hL : u 0 (17 + j) = L) (hn : u 0 (179 + m) = n) (k20 : k < 20) (L4 : L < 4) (n5 : n < 5) (hj : j < 5) (hm : m < 4) (h0 : (j : Int) < u 0 0) (hJ : WfJ (u 0)) :
    zup (zup (zup (zup (zup (zup (zup (sH b u g) (b + 52 + k) (.inr (5, [.int (iI k), .int (iI j), .int (iI m), .int (iI f), .int (iI L), .int (iI d)]))) (b + 47 + j) (aR 10 (L + 1) fun q => if q = L then b + 52 + k else b + 52 + (u 0 (22 + 4 * j + q)).toNat)) (b + 42 + j) (oL (u 6 (8 + j) + 1) (b + 47 + j) ((L : Int) + 1))) (b + oAr (k + 1)) (aR (oCp (k + 1)) (k + 1) fun q => b + 52 + q)) (b + 3) (oL (u 6 1 + 1) (b + oAr (k + 1)) ((k : Int) + 1))) (b + 24 + m) (aI 5 (sup (fun q => u 0 (183 + 5 * m + q)) n k))) (b + 20 + m) (oO (b + 24 + m) ((n : Int) + 1)) = sH b (wNO u j m d f) g := by
  have e := sNO_nat (s := u 0) (j := j) (m := m) (k := k) (n := n) (L := L) (d := d) (f := f) hk hL hn
  have w0 : wNO u j m d f 0 = _ := wNO_0.trans e
  have w01 : wNO u j m d f 0 1 = (k : Int) + 1 := by rw [w0]; rfl
  have w00 : wNO u j m d f 0 0 = u 0 0 := by rw [w0]; dsimp only; rw [if_neg (by omega), if_neg (by omega), if_neg (by omega), if_neg (by omega), if_neg (by omega), if_neg (by omega), if_neg (by omega), if_neg (by omega), if_neg (by omega), if_neg (by omega)]
  have wn : wNO u j m d f 0 (179 + m) = (n : Int) + 1 := by rw [w0]; dsimp only; rw [if_neg (by omega), if_pos rfl]
  have wl : wNO u j m d f 0 (17 + j) = (L : Int) + 1 := by rw [w0]; dsimp only; rw [if_neg (by omega), if_neg (by omega), if_neg (by omega), if_pos rfl]
  have wN : ∀ i, i ≠ 1 → i ≠ 179 + m → i ≠ 183 + 5 * m + n → i ≠ 17 + j → i ≠ 22 + 4 * j + L → i ≠ 122 + k → i ≠ 102 + k → i ≠ 82 + k → i ≠ 62 + k → i ≠ 42 + k → wNO u j m d f 0 i = u 0 i := fun i a1 a2 a3 a4 a5 a6 a7 a8 a9 a10 => by rw [w0]; dsimp only; rw [if_neg a1, if_neg a2, if_neg a3, if_neg a4, if_neg a5, if_neg a6, if_neg a7, if_neg a8, if_neg a9, if_neg a10]
  have w61 : wNO u j m d f 6 1 = u 6 1 + 1 := by rw [wNO_6, sup_n (by omega), sup_s]
  have w6j : wNO u j m d f 6 (8 + j) = u 6 (8 + j) + 1 := by rw [wNO_6, sup_s]
  have w6n : ∀ i, i ≠ 1 → i ≠ 8 + j → wNO u j m d f 6 i = u 6 i := fun i a1 a2 => by rw [wNO_6, sup_n a2, sup_n a1]
  refine sH_many [(b + 52 + k, _), (b + 47 + j, _), (b + 42 + j, _), (b + oAr (k + 1), _), (b + 3, _), (b + 24 + m, _), (b + 20 + m, _)] ?_ ?_
  · intro p hp
    rcases List.mem_cons.mp hp with rfl | hp
    · refine ⟨52 + k, by omega, by dsimp only; omega, ?_⟩
      dsimp only
      rw [sC_52 k20, w01, if_pos (by omega), w0]
      dsimp only
      rw [if_neg (show 42 + k ≠ 1 by omega), if_neg (show 42 + k ≠ 179 + m by omega), if_neg (show 42 + k ≠ 183 + 5 * m + n by omega), if_neg (show 42 + k ≠ 17 + j by omega), if_neg (show 42 + k ≠ 22 + 4 * j + L by omega), if_neg (show 42 + k ≠ 122 + k by omega), if_neg (show 42 + k ≠ 102 + k by omega), if_neg (show 42 + k ≠ 82 + k by omega), if_neg (show 42 + k ≠ 62 + k by omega), if_pos (show 42 + k = 42 + k from rfl)]
      rw [if_neg (show 62 + k ≠ 1 by omega), if_neg (show 62 + k ≠ 179 + m by omega), if_neg (show 62 + k ≠ 183 + 5 * m + n by omega), if_neg (show 62 + k ≠ 17 + j by omega), if_neg (show 62 + k ≠ 22 + 4 * j + L by omega), if_neg (show 62 + k ≠ 122 + k by omega), if_neg (show 62 + k ≠ 102 + k by omega), if_neg (show 62 + k ≠ 82 + k by omega), if_pos (show 62 + k = 62 + k from rfl)]
      rw [if_neg (show 102 + k ≠ 1 by omega), if_neg (show 102 + k ≠ 179 + m by omega), if_neg (show 102 + k ≠ 183 + 5 * m + n by omega), if_neg (show 102 + k ≠ 17 + j by omega), if_neg (show 102 + k ≠ 22 + 4 * j + L by omega), if_neg (show 102 + k ≠ 122 + k by omega), if_pos (show 102 + k = 102 + k from rfl)]
      rw [if_neg (show 122 + k ≠ 1 by omega), if_neg (show 122 + k ≠ 179 + m by omega), if_neg (show 122 + k ≠ 183 + 5 * m + n by omega), if_neg (show 122 + k ≠ 17 + j by omega), if_neg (show 122 + k ≠ 22 + 4 * j + L by omega), if_pos (show 122 + k = 122 + k from rfl)]
      rw [if_neg (show 82 + k ≠ 1 by omega), if_neg (show 82 + k ≠ 179 + m by omega), if_neg (show 82 + k ≠ 183 + 5 * m + n by omega), if_neg (show 82 + k ≠ 17 + j by omega), if_neg (show 82 + k ≠ 22 + 4 * j + L by omega), if_neg (show 82 + k ≠ 122 + k by omega), if_neg (show 82 + k ≠ 102 + k by omega), if_pos (show 82 + k = 82 + k from rfl)]
    rcases List.mem_cons.mp hp with rfl | hp
    · refine ⟨47 + j, by omega, by dsimp only; omega, ?_⟩
      dsimp only
      rw [sC_47 hj, w00, wl, if_pos ⟨h0, by omega⟩, show ((L : Int) + 1).toNat = L + 1 by omega]
      refine congrArg some (aR_congr rfl fun q hq => ?_)
      by_cases z : q = L
      · subst z
        rw [if_pos rfl, w0]
        dsimp only
        rw [if_neg (by omega), if_neg (by omega), if_neg (by omega), if_neg (by omega), if_pos rfl, Int.toNat_natCast]
      · rw [if_neg z, wN _ (by omega) (by omega) (by omega) (by omega) (by omega) (by omega) (by omega) (by omega) (by omega) (by omega)]
    rcases List.mem_cons.mp hp with rfl | hp
    · refine ⟨42 + j, by omega, by dsimp only; omega, ?_⟩
      dsimp only
      rw [sC_42 hj, w00, wl, if_pos h0, w6j, if_neg (by omega)]; rfl
    rcases List.mem_cons.mp hp with rfl | hp
    · refine ⟨oAr (k + 1), by unfold oAr; split <;> (try split) <;> omega, rfl, ?_⟩
      dsimp only
      unfold oAr oCp
      by_cases z1 : k + 1 ≤ 10
      · rw [if_pos z1, if_pos z1, sC_4, w01, if_neg (by omega), show min ((k : Int) + 1).toNat 10 = k + 1 by omega]; rfl
      · rw [if_neg z1, if_neg z1]
        by_cases z2 : k + 1 ≤ 15
        · rw [if_pos z2, if_pos z2, sC_5, w01, if_neg (by omega), show min ((k : Int) + 1).toNat 15 = k + 1 by omega]; rfl
        · rw [if_neg z2, if_neg z2, sC_6, w01, if_neg (by omega), show min ((k : Int) + 1).toNat 22 = k + 1 by omega]; rfl
    rcases List.mem_cons.mp hp with rfl | hp
    · refine ⟨3, by omega, rfl, ?_⟩
      dsimp only
      rw [sC_3, w01, w61, if_neg (by omega)]
      unfold oAr
      by_cases z1 : k + 1 ≤ 10
      · rw [if_pos z1, if_pos (by omega)]; rfl
      · rw [if_neg z1, if_neg (by omega)]
        by_cases z2 : k + 1 ≤ 15
        · rw [if_pos z2, if_pos (by omega)]; rfl
        · rw [if_neg z2, if_neg (by omega)]; rfl
    rcases List.mem_cons.mp hp with rfl | hp
    · refine ⟨24 + m, by omega, by dsimp only; omega, ?_⟩
      dsimp only
      rw [sC_24 hm]
      refine congrArg some (aI_congr fun q hq => ?_)
      by_cases z : q = n
      · subst z
        rw [sup_s, w0]
        dsimp only
        rw [if_neg (by omega), if_neg (by omega), if_pos rfl]
      · rw [sup_n z, wN _ (by omega) (by omega) (by omega) (by omega) (by omega) (by omega) (by omega) (by omega) (by omega) (by omega)]
    rcases List.mem_cons.mp hp with rfl | hp
    · refine ⟨20 + m, by omega, by dsimp only; omega, ?_⟩
      dsimp only
      rw [sC_20 hm, wn]
    · cases hp
  · intro i hi hne
    have n1 := hne _ (List.mem_cons_self)
    have n2 := hne _ (List.mem_cons_of_mem _ List.mem_cons_self)
    have n3 := hne _ (List.mem_cons_of_mem _ (List.mem_cons_of_mem _ List.mem_cons_self))
    have n4 := hne _ (List.mem_cons_of_mem _ (List.mem_cons_of_mem _ (List.mem_cons_of_mem _ List.mem_cons_self)))
    have n5' := hne _ (List.mem_cons_of_mem _ (List.mem_cons_of_mem _ (List.mem_cons_of_mem _ (List.mem_cons_of_mem _ List.mem_cons_self))))
    have n6 := hne _ (List.mem_cons_of_mem _ (List.mem_cons_of_mem _ (List.mem_cons_of_mem _ (List.mem_cons_of_mem _ (List.mem_cons_of_mem _ List.mem_cons_self)))))
    have n7 := hne _ (List.mem_cons_of_mem _ (List.mem_cons_of_mem _ (List.mem_cons_of_mem _ (List.mem_cons_of_mem _ (List.mem_cons_of_mem _ (List.mem_cons_of_mem _ List.mem_cons_self))))))
    dsimp only at n1 n2 n3 n4 n5' n6 n7
    by_cases hz : ∃ x, x < 5 ∧ i = 47 + x ∧ ¬ (x : Int) < u 0 0
    · obtain ⟨x, hx, rfl, hz⟩ := hz
      rw [sC_47 hx, sC_47 hx, w00, if_neg (fun q => hz q.1), if_neg (fun q => hz q.1)]
    by_cases c : i < 3 ∨ (7 ≤ i ∧ i < 52)
    · rw [← sC_c1 (u := wNO u j m d f) (v := u 0 1) c]
      have t0 : ∀ x, x ≠ 1 → tset (wNO u j m d f) 0 1 (u 0 1) 0 x = wNO u j m d f 0 x := fun x hx => tsN hx
      have tf : ∀ q x, q ≠ 0 → tset (wNO u j m d f) 0 1 (u 0 1) q x = wNO u j m d f q x := fun q x hx => tsF hx
      refine (sC_eq hi ((t0 0 (by omega)).trans w00) tsS (fun _ x _ => by rw [tf 5 x (by decide), wNO_f (by decide)]) (fun x => ?_) (fun _ x hx => by rw [t0 _ (by omega), wN _ (by omega) (by omega) (by omega) (by omega) (by omega) (by omega) (by omega) (by omega) (by omega) (by omega)]) (fun x hx _ => ⟨by rw [tf 7 x (by decide), wNO_f (by decide)], by rw [t0 _ (by omega), wN _ (by omega) (by omega) (by omega) (by omega) (by omega) (by omega) (by omega) (by omega) (by omega) (by omega)]⟩) (fun x _ _ q => by rw [tf 8 _ (by decide), wNO_f (by decide)]) (fun x hx ex => by rw [t0 _ (by omega), wN _ (by omega) (by omega) (by omega) (by omega) (by omega) (by omega) (by omega) (by omega) (by omega) (by omega)]) (fun x hx ex p hp => by rw [t0 _ (by omega), wN _ (by omega) (by omega) (by omega) (by omega) (by omega) (by omega) (by omega) (by omega) (by omega) (by omega)]) (fun x hx _ => by funext y; rw [tf _ y (by omega), wNO_f ⟨by omega, by omega⟩]) (fun x hx ex q hq => by rw [t0 _ (by omega), wN _ (by omega) (by omega) (by omega) (by omega) (by omega) (by omega) (by omega) (by omega) (by omega) (by omega)]) (fun x hx ex => by rw [t0 _ (by omega), wN _ (by omega) (by omega) (by omega) (by omega) (by omega) (by omega) (by omega) (by omega) (by omega) (by omega)]) (fun x hx ex q hq => ?_) (fun x hx ex => by omega)).symm
      · rw [tf 6 x (by decide)]
        by_cases z1 : x = 1
        · right; omega
        · by_cases z2 : x = 8 + j
          · right; omega
          · left; exact w6n x z1 z2
      · have z1 : (x : Int) < u 0 0 := Classical.not_not.mp fun h9 => hz ⟨x, hx, ex, h9⟩
        have z3 := (hJ.2 x (by omega) z1).2.2.2.2
        have z4 : sLen (u 0) x = u 0 (17 + x) := congrArg (u 0) (by omega)
        rw [z4] at z3
        rw [t0 _ (by omega), wN _ (by omega) (by omega) (by omega) (by omega) (by omega) (by omega) (by omega) (by omega) (by omega) (by omega)]
    · rcases (by omega : i = 4 ∨ i = 5 ∨ i = 6 ∨ (52 ≤ i ∧ i < 72)) with rfl | rfl | rfl | c2
      · have z : ¬ k + 1 ≤ 10 := fun z => n4 (by unfold oAr; rw [if_pos z])
        rw [sC_4, sC_4, w01, hk, if_neg (by omega), if_neg (by omega), show min ((k : Int)).toNat 10 = min ((k : Int) + 1).toNat 10 by omega]
      · have z : ¬ (10 < k + 1 ∧ k + 1 ≤ 15) := fun z => n4 (by unfold oAr; rw [if_neg (by omega), if_pos z.2])
        rw [sC_5, sC_5, w01, hk]
        by_cases z1 : k + 1 ≤ 10
        · rw [if_pos (by omega), if_pos (by omega)]
        · rw [if_neg (by omega), if_neg (by omega), show min ((k : Int)).toNat 15 = min ((k : Int) + 1).toNat 15 by omega]
      · have z : ¬ (15 < k + 1) := fun z => n4 (by unfold oAr; rw [if_neg (by omega), if_neg (by omega)])
        rw [sC_6, sC_6, w01, hk, if_pos (by omega), if_pos (by omega)]
      · obtain ⟨x, rfl⟩ : ∃ x, i = 52 + x := ⟨i - 52, by omega⟩
        rw [sC_52 (by omega), sC_52 (by omega), w01, hk]
        by_cases z : x < k
        · rw [if_pos (by omega), if_pos (by omega), wN (42 + x) (by omega) (by omega) (by omega) (by omega) (by omega) (by omega) (by omega) (by omega) (by omega) (by omega), wN (62 + x) (by omega) (by omega) (by omega) (by omega) (by omega) (by omega) (by omega) (by omega) (by omega) (by omega), wN (102 + x) (by omega) (by omega) (by omega) (by omega) (by omega) (by omega) (by omega) (by omega) (by omega) (by omega), wN (122 + x) (by omega) (by omega) (by omega) (by omega) (by omega) (by omega) (by omega) (by omega) (by omega) (by omega), wN (82 + x) (by omega) (by omega) (by omega) (by omega) (by omega) (by omega) (by omega) (by omega) (by omega) (by omega)]
        · rw [if_neg (by omega), if_neg (by omega)]
