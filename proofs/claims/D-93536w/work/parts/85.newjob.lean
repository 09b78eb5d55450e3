/-! ===== the component: a new job ===== -/
section XNj
variable {b : Nat} {u : tW} {g : zH} {N : Nat}
theorem zup_ow {h : zH} {o r l : Nat} {d x y z : zC} (h1 : o ≠ r) (h2 : o ≠ l) : zup (zup (zup (zup h o d) r x) l y) o z = zup (zup (zup h r x) l y) o z := by
  funext m
  by_cases e : m = o
  · subst e; rw [zup_at, zup_at]
  · rw [zup_ne e, zup_ne e]
    by_cases e2 : m = l
    · subst e2; rw [zup_at, zup_at]
    · rw [zup_ne e2, zup_ne e2]
      by_cases e3 : m = r
      · subst e3; rw [zup_at, zup_at]
      · rw [zup_ne e3, zup_ne e3, zup_ne e]
/-- the three numbers of a job -/
abbrev jV (r d w : Int) : Nat → Int := fun q => if q = 0 then r else if q = 1 then d else w
theorem x5_init {h : zH} {o r l : Nat} {v1 v2 v3 : Int} {c1 : zC} (ho : h o = some (.inr (4, [.null, .null]))) (hr : h r = none) (hl : h l = none) (h1 : h 1 = some c1) (hrl : r ≠ l) (h8 : 1000 ≤ o) (r8 : 1000 ≤ r) (l8 : 1000 ≤ l) : zMet yX5_init (ws_ yX5_init cX5_init 4 none) 5 [.ref o, .int (iI v1), .int (iI v2), .int (iI v3)] h (zVd (zup (zup (zup h r (aI 3 (jV v1 v2 v3))) l (oL 0 1 0)) o (.inr (4, [.ref r, .ref l])))) 2 6 := by
  have hor : o ≠ r := fun e => by rw [e, hr] at ho; cases ho
  have hol : o ≠ l := fun e => by rw [e, hl] at ho; cases ho
  refine zMet.of (by decide) (Nat.le_of_ble_eq_true rfl) fun X K => ?_
  generalize hH1 : zup (zup h r (aI 3 fun _ => 0)) o (.inr (4, [.ref r, .null])) = H1
  have e1 : ∀ x, x ≠ r → x ≠ o → H1 x = h x := fun x h1 h2 => by rw [← hH1]; exact (zup_ne h2).trans (zup_ne h1)
  have hli := jl_init (h := zup H1 l (.inr (18, [.int 0, .null, .int 0]))) (L := l) (c1 := c1) (zup_at _ _ _) ((zup_ne (by omega)).trans ((e1 _ (by omega) (by omega)).trans h1)) l8
  rw [zup_zup] at hli
  generalize hH2 : zup (zup H1 l (oL 0 1 0)) o (.inr (4, [.ref r, .ref l])) = H2
  have r2 : H2 r = some (aI 3 fun _ => 0) := by rw [← hH2, ← hH1]; exact (zup_ne hor.symm).trans ((zup_ne hrl).trans ((zup_ne hor.symm).trans (zup_at _ _ _)))
  have o2 : H2 o = some (.inr (4, [.ref r, .ref l])) := by rw [← hH2]; exact zup_at _ _ _
  have o1 : H1 o = some (.inr (4, [.ref r, .null])) := by rw [← hH1]; exact zup_at _ _ _
  have o3 : ∀ f, zup H2 r (aI 3 f) o = some (.inr (4, [.ref r, .ref l])) := fun f => (zup_ne hor).trans o2
  have hend : zup H2 r (aI 3 (sup (sup (sup (fun _ => 0) 0 v1) 1 v2) 2 v3)) = zup (zup (zup h r (aI 3 (jV v1 v2 v3))) l (oL 0 1 0)) o (.inr (4, [.ref r, .ref l])) := by
    rw [show aI 3 (sup (sup (sup (fun _ => 0) 0 v1) 1 v2) 2 v3) = aI 3 (jV v1 v2 v3) from aI_congr fun q hq => by rcases (by omega : q = 0 ∨ q = 1 ∨ q = 2) with rfl | rfl | rfl <;> rfl, ← hH2, ← hH1]
    funext m
    by_cases e : m = r
    · subst e; rw [zup_at, zup_ne hor.symm, zup_ne hrl, zup_at]
    · rw [zup_ne e]
      by_cases e2 : m = o
      · subst e2; rw [zup_at, zup_at]
      · rw [zup_ne e2, zup_ne e2]
        by_cases e3 : m = l
        · subst e3; rw [zup_at, zup_at]
        · rw [zup_ne e3, zup_ne e3, zup_ne e2, zup_ne e, zup_ne e]
  refine z_aload_n K dX5_init_0 rfl rfl rfl ?_
  refine z_objInit K q583 (by omega) (Nat.le_of_ble_eq_true rfl) dX5_init_1 ?_
  refine z_aload_n K dX5_init_4 rfl rfl rfl ?_
  refine j_iconst K dX5_init_5 ?_
  refine z_newi K (r) (by omega) (by omega) hr (by omega) (by omega) (by omega) dX5_init_6 ?_
  rw [show (3 : Int).toNat = 3 from rfl, aI_zero]
  refine z_putE K fd_X5_7_4 (by first | exact ⟨_, rfl, Or.inl rfl⟩ | exact ⟨_, rfl, Or.inr ⟨rfl, rfl, rfl⟩⟩) ((zup_ne hor).trans ho) (by omega) (Nat.le_of_ble_eq_true rfl) (zf_a) dX5_init_8 (hH1) ?_
  refine z_aload_n K dX5_init_11 rfl rfl rfl ?_
  refine z_new K (l) nw_X5_13 ((e1 _ hrl.symm hol.symm).trans hl) (by omega) (by omega) (by omega) dX5_init_12 ?_
  refine z_dup K dX5_init_15 rfl ?_
  refine z_cI (fs := []) K (hli) cI_X5_15 rfl rfl (by omega) (by omega) (by omega) (Nat.le_of_ble_eq_true rfl) dX5_init_16 zvX (zvK ?_)
  refine z_putE K fd_X5_16_4 (by first | exact ⟨_, rfl, Or.inl rfl⟩ | exact ⟨_, rfl, Or.inr ⟨rfl, rfl, rfl⟩⟩) ((zup_ne hol).trans o1) (by omega) (Nat.le_of_ble_eq_true rfl) (zf_r) dX5_init_19 (hH2) ?_
  refine z_aload_n K dX5_init_22 rfl rfl rfl ?_
  refine z_get K fd_X5_7_4 ((by first | exact o2 | exact o3 _)) rfl dX5_init_23 ?_
  refine j_iconst K dX5_init_26 ?_
  refine z_iload_n K dX5_init_27 rfl rfl ?_
  refine j_istE K ((by first | exact r2 | exact zup_at _ _ _)) (by omega) (by omega) (by omega) dX5_init_28 (rfl) ?_
  rw [show (0 : Int).toNat = 0 from rfl]
  refine z_aload_n K dX5_init_29 rfl rfl rfl ?_
  refine z_get K fd_X5_7_4 ((by first | exact o2 | exact o3 _)) rfl dX5_init_30 ?_
  refine j_iconst K dX5_init_33 ?_
  refine z_iload_n K dX5_init_34 rfl rfl ?_
  refine j_istE K ((by first | exact r2 | exact zup_at _ _ _)) (by omega) (by omega) (by omega) dX5_init_35 (zup_zup) ?_
  rw [show (1 : Int).toNat = 1 from rfl]
  refine z_aload_n K dX5_init_36 rfl rfl rfl ?_
  refine z_get K fd_X5_7_4 ((by first | exact o2 | exact o3 _)) rfl dX5_init_37 ?_
  refine j_iconst K dX5_init_40 ?_
  refine z_iload_n K dX5_init_41 rfl rfl ?_
  refine j_istE K ((by first | exact r2 | exact zup_at _ _ _)) (by omega) (by omega) (by omega) dX5_init_42 (zup_zup) ?_
  rw [show (2 : Int).toNat = 2 from rfl, hend]
  exact z_vret K (by omega) (by omega) (⟨rfl, rfl⟩) dX5_init_43
theorem zOb_jb {h : zH} {o : Nat} {l : List Value} (e : h o = some (.inr (4, l))) : zOb h o := Or.inl ⟨_, _, _, e, rfl, q2296⟩
theorem jobsAdd {H : zH} {k : Nat} {c : Int} {f1 : Nat → Nat} (hb : 1000 ≤ b) (hL : H (b + 1) = some (oL c (if k = 0 then 1 else b + 2) k)) (ha : k ≠ 0 → H (b + 2) = some (aR 10 k fun q => b + 32 + q)) (hf : k = 0 → H (b + 2) = none) (h1 : H 1 = some (aR 0 0 f1)) (hx : zOb H (b + 32 + k)) (k5 : k < 5) :
    zMet yJ2_add (ws_ yJ2_add cJ2_add 2 (some .boolean)) 7 [.ref (b + 1), .ref (b + 32 + k)] H (zRet (.int (iI 1)) (zup (zup H (b + 2) (aR 10 (k + 1) fun q => b + 32 + q)) (b + 1) (oL (c + 1) (b + 2) ((k : Int) + 1)))) 1 22 := by
  have ec : ∀ M, aR M (k + 1) (fun i => if i = k then b + 32 + k else b + 32 + i) = aR M (k + 1) fun q => b + 32 + q := fun M => aR_congr rfl fun i hi => by
    by_cases z : i = k
    · rw [if_pos z, z]
    · rw [if_neg z]
  by_cases z0 : k = 0
  · subst z0
    have h9 := jl_addE (L := b + 1) (nm := b + 2) (x := b + 32 + 0) hL h1 hx (hf rfl) (by omega) (by omega)
    rw [show aR 10 1 (fun _ => b + 32 + 0) = aR 10 (0 + 1) (fun q => b + 32 + q) from aR_congr rfl fun i hi => by rw [show i = 0 by omega]] at h9
    exact h9
  · rw [if_neg z0] at hL
    have h9 := jl_addA (L := b + 1) (a := b + 2) hL (ha z0) (by omega) (by omega) hx (by omega) (by omega) 1 22
    rw [ec] at h9
    exact h9
/-- the world with a new job -/
def wNJ (u : tW) (k : Nat) (r d w : Int) : tW := fun q => if q = 0 then sNJ (u 0) r d w else if q = 6 then sup (sup (u 6) 0 (u 6 0 + 1)) (8 + k) 0 else u q
theorem wNJ_0 {u : tW} {k : Nat} {r d w : Int} : wNJ u k r d w 0 = sNJ (u 0) r d w := rfl
theorem wNJ_6 {u : tW} {k : Nat} {r d w : Int} : wNJ u k r d w 6 = sup (sup (u 6) 0 (u 6 0 + 1)) (8 + k) 0 := rfl
theorem wNJ_f {u : tW} {k : Nat} {r d w : Int} {q : Nat} (h : q ≠ 0 ∧ q ≠ 6) : wNJ u k r d w q = u q := by unfold wNJ; rw [if_neg h.1, if_neg h.2]
theorem sNJ_nat {s : Nat → Int} {k : Nat} {r d w : Int} (hk : s 0 = k) : sNJ s r d w = fun i => if i = 0 then ((k : Int) + 1) else if i = 17 + k then 0 else if i = 12 + k then w else if i = 7 + k then d else if i = 2 + k then r else s i := by
  funext i
  unfold sNJ
  rw [hk, show (17 + (k : Int)).toNat = 17 + k by omega, show (12 + (k : Int)).toNat = 12 + k by omega, show (7 + (k : Int)).toNat = 7 + k by omega, show (2 + (k : Int)).toNat = 2 + k by omega]
theorem sH_newjob {k : Nat} {r d w : Int} (hk : u 0 0 = k) (k5 : k < 5) :
    zup (zup (zup (zup (zup (sH b u g) (b + 37 + k) (aI 3 (jV r d w))) (b + 42 + k) (oL 0 1 0)) (b + 32 + k) (.inr (4, [.ref (b + 37 + k), .ref (b + 42 + k)]))) (b + 2) (aR 10 (k + 1) fun q => b + 32 + q)) (b + 1) (oL (u 6 0 + 1) (b + 2) ((k : Int) + 1)) = sH b (wNJ u k r d w) g := by
  have e := sNJ_nat (s := u 0) (k := k) (r := r) (d := d) (w := w) hk
  have w0 : wNJ u k r d w 0 = _ := wNJ_0.trans e
  have w00 : wNJ u k r d w 0 0 = (k : Int) + 1 := by rw [w0]; rfl
  have w17 : wNJ u k r d w 0 (17 + k) = 0 := by rw [w0]; dsimp only; rw [if_neg (by omega), if_pos rfl]
  have wN : ∀ i, i ≠ 0 → i ≠ 17 + k → i ≠ 12 + k → i ≠ 7 + k → i ≠ 2 + k → wNJ u k r d w 0 i = u 0 i := fun i a1 a2 a3 a4 a5 => by rw [w0]; dsimp only; rw [if_neg a1, if_neg a2, if_neg a3, if_neg a4, if_neg a5]
  have w60 : wNJ u k r d w 6 0 = u 6 0 + 1 := by rw [wNJ_6, sup_n (by omega), sup_s]
  have w6k : wNJ u k r d w 6 (8 + k) = 0 := by rw [wNJ_6, sup_s]
  have w6n : ∀ i, i ≠ 0 → i ≠ 8 + k → wNJ u k r d w 6 i = u 6 i := fun i a1 a2 => by rw [wNJ_6, sup_n a2, sup_n a1]
  refine sH_many [(b + 37 + k, _), (b + 42 + k, _), (b + 32 + k, _), (b + 2, _), (b + 1, _)] ?_ ?_
  · intro p hp
    rcases List.mem_cons.mp hp with rfl | hp
    · refine ⟨37 + k, by omega, by dsimp only; omega, ?_⟩
      dsimp only
      rw [sC_37 k5, w00, if_pos (by omega)]
      refine congrArg some (aI_congr fun q hq => ?_)
      rw [w0]
      dsimp only
      unfold jV
      rcases (by omega : q = 0 ∨ q = 1 ∨ q = 2) with rfl | rfl | rfl
      · rw [if_neg (by omega), if_neg (by omega), if_neg (by omega), if_neg (by omega), if_pos (by omega)]; rfl
      · rw [if_neg (by omega), if_neg (by omega), if_neg (by omega), if_pos (by omega)]; rfl
      · rw [if_neg (by omega), if_neg (by omega), if_pos (by omega)]; rfl
    rcases List.mem_cons.mp hp with rfl | hp
    · refine ⟨42 + k, by omega, by dsimp only; omega, ?_⟩
      dsimp only
      rw [sC_42 k5, w00, if_pos (by omega), w6k, w17]
      rfl
    rcases List.mem_cons.mp hp with rfl | hp
    · refine ⟨32 + k, by omega, by dsimp only; omega, ?_⟩
      dsimp only
      rw [sC_32 k5, w00, if_pos (by omega)]
    rcases List.mem_cons.mp hp with rfl | hp
    · refine ⟨2, by omega, rfl, ?_⟩
      dsimp only
      rw [sC_2, w00, if_neg (by omega), show ((k : Int) + 1).toNat = k + 1 by omega]
      rfl
    rcases List.mem_cons.mp hp with rfl | hp
    · refine ⟨1, by omega, rfl, ?_⟩
      dsimp only
      rw [sC_1, w00, if_neg (by omega), w60]
      rfl
    · cases hp
  · intro i hi hne
    have n1 := hne _ (List.mem_cons_self)
    have n2 := hne _ (List.mem_cons_of_mem _ List.mem_cons_self)
    have n3 := hne _ (List.mem_cons_of_mem _ (List.mem_cons_of_mem _ List.mem_cons_self))
    have n4 := hne _ (List.mem_cons_of_mem _ (List.mem_cons_of_mem _ (List.mem_cons_of_mem _ List.mem_cons_self)))
    have n5 := hne _ (List.mem_cons_of_mem _ (List.mem_cons_of_mem _ (List.mem_cons_of_mem _ (List.mem_cons_of_mem _ List.mem_cons_self))))
    dsimp only at n1 n2 n3 n4 n5
    by_cases c : i = 0 ∨ (3 ≤ i ∧ i < 32) ∨ (52 ≤ i ∧ i < 72)
    · rw [← sC_c0 (u := wNJ u k r d w) (v := u 0 0) c]
      have t0 : ∀ x, x ≠ 0 → tset (wNJ u k r d w) 0 0 (u 0 0) 0 x = wNJ u k r d w 0 x := fun x hx => tsN hx
      have tf : ∀ q x, q ≠ 0 → tset (wNJ u k r d w) 0 0 (u 0 0) q x = wNJ u k r d w q x := fun q x hx => tsF hx
      refine (sC_eq hi tsS ((t0 1 (by omega)).trans (wN 1 (by omega) (by omega) (by omega) (by omega) (by omega))) (fun _ x _ => by rw [tf 5 x (by decide), wNJ_f (by decide)]) (fun x => ?_) (fun _ x hx => by rw [t0 _ (by omega), wN _ (by omega) (by omega) (by omega) (by omega) (by omega)]) (fun x hx _ => ⟨by rw [tf 7 x (by decide), wNJ_f (by decide)], by rw [t0 _ (by omega), wN _ (by omega) (by omega) (by omega) (by omega) (by omega)]⟩) (fun x _ _ q => by rw [tf 8 _ (by decide), wNJ_f (by decide)]) (fun x hx ex => by rw [t0 _ (by omega), wN _ (by omega) (by omega) (by omega) (by omega) (by omega)]) (fun x hx ex p hp => by rw [t0 _ (by omega), wN _ (by omega) (by omega) (by omega) (by omega) (by omega)]) (fun x hx _ => by funext y; rw [tf _ y (by omega), wNJ_f ⟨by omega, by omega⟩]) (fun x hx ex q hq => by omega) (fun x hx ex => by omega) (fun x hx ex q hq => by omega) (fun x hx ex => by
          refine ⟨?_, ?_, ?_, ?_, ?_⟩ <;> rw [t0 _ (by omega), wN _ (by omega) (by omega) (by omega) (by omega) (by omega)])).symm
      rw [tf 6 x (by decide)]
      by_cases z1 : x = 0
      · right; omega
      · by_cases z2 : x = 8 + k
        · right; omega
        · left; exact w6n x z1 z2
    · have hrg : (∃ x, x < 5 ∧ i = 32 + x) ∨ (∃ x, x < 5 ∧ i = 37 + x) ∨ (∃ x, x < 5 ∧ i = 42 + x) ∨ (∃ x, x < 5 ∧ i = 47 + x) := by
        rcases (by omega : (32 ≤ i ∧ i < 37) ∨ (37 ≤ i ∧ i < 42) ∨ (42 ≤ i ∧ i < 47) ∨ (47 ≤ i ∧ i < 52)) with z | z | z | z
        · exact Or.inl ⟨i - 32, by omega, by omega⟩
        · exact Or.inr (Or.inl ⟨i - 37, by omega, by omega⟩)
        · exact Or.inr (Or.inr (Or.inl ⟨i - 42, by omega, by omega⟩))
        · exact Or.inr (Or.inr (Or.inr ⟨i - 47, by omega, by omega⟩))
      rcases hrg with ⟨x, hx, rfl⟩ | ⟨x, hx, rfl⟩ | ⟨x, hx, rfl⟩ | ⟨x, hx, rfl⟩
      · rw [sC_32 hx, sC_32 hx, w00, hk]
        by_cases z : x < k
        · rw [if_pos (by omega), if_pos (by omega)]
        · rw [if_neg (by omega), if_neg (by omega)]
      · rw [sC_37 hx, sC_37 hx, w00, hk]
        by_cases z : x < k
        · rw [if_pos (by omega), if_pos (by omega), aI_congr fun q hq => (wN (2 + 5 * q + x) (by omega) (by omega) (by omega) (by omega) (by omega)).symm]
        · rw [if_neg (by omega), if_neg (by omega)]
      · rw [sC_42 hx, sC_42 hx, w00, hk]
        by_cases z : x < k
        · rw [if_pos (show (x : Int) < k by omega), if_pos (show (x : Int) < (k : Int) + 1 by omega), w6n _ (by omega) (by omega), wN (17 + x) (by omega) (by omega) (by omega) (by omega) (by omega)]
        · rw [if_neg (by omega), if_neg (by omega)]
      · rw [sC_47 hx, sC_47 hx, w00, hk]
        by_cases z : x < k
        · rw [wN (17 + x) (by omega) (by omega) (by omega) (by omega) (by omega)]
          by_cases z2 : u 0 (17 + x) = 0
          · rw [if_neg (fun q => q.2 z2), if_neg (fun q => q.2 z2)]
          · rw [if_pos ⟨by omega, z2⟩, if_pos ⟨by omega, z2⟩]
            exact congrArg some (aR_congr rfl fun q hq => by rw [wN (22 + 4 * x + q) (by omega) (by omega) (by omega) (by omega) (by omega)])
        · rw [if_neg (fun q => by omega)]
          by_cases z3 : x = k
          · subst z3
            rw [w17, if_neg (fun q => q.2 rfl)]
          · rw [if_neg (fun q => by omega)]
end XNj

