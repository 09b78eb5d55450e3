/-! ===== the component: create ===== -/
/-- the rest of a heap beside the shop at b -/
def gO (b : Nat) (g h' : zH) : zH := fun m => if b ≤ m ∧ m < b + 72 then g m else h' m
def crQ (b N : Nat) (u : tW) (g : zH) (w : tW) (t : Nat → Int) (n : Nat) : zO → zH → Prop := fun z h' => match rdA t n 20 0 J00 0 with
  | .inr e => ∃ M g' fs N', z = .inr M ∧ h' = sH b u g' ∧ g' M = some (.inr (14, fs)) ∧ (∀ c : Nat → Int, c 0 = 2 → c 1 = 100 + e → fC b g' c 1 0 M) ∧ zExt N g g' ∧ zTop g' N' ∧ N ≤ N'
  | .inl x => match crA x.2 x.1 0 (u 0) with
    | .inl s => ∃ b' u' g' N', z = .inl (some (.int (iI x.1))) ∧ h' = sH b' u' g' ∧ CG b' N' u' g' (wRow w s) ∧ ∀ m, m < 1040 → g' m = g m
    | .inr y => ∃ M g' fs N', z = .inr M ∧ h' = sH b u g' ∧ g' M = some (.inr (17, fs)) ∧ (∀ c : Nat → Int, c 0 = 3 → c 1 = 100 + y.1 → c 2 = y.2.1 → (y.2.1 = 3 → c 3 = 100 + y.2.2) → fC b g' c (if y.2.1 = 3 then 3 else 2) 0 M) ∧ zExt N g g' ∧ zTop g' N' ∧ N ≤ N'
section XP8
variable {b N : Nat} {u w : tW} {g h' : zH}
theorem gO_o {m : Nat} (h : m < b ∨ b + 72 ≤ m) : gO b g h' m = h' m := if_neg (by omega)
theorem gO_sH (h : ∀ m, b ≤ m → m < b + 72 → h' m = sH b u g m) : h' = sH b u (gO b g h') := by
  funext m
  by_cases q : m < b ∨ b + 72 ≤ m
  · rw [sH_out q, gO_o q]
  · obtain ⟨i, rfl⟩ : ∃ i, m = b + i := ⟨m - b, by omega⟩
    rw [h _ (by omega) (by omega), sH_in i (by omega), sH_in i (by omega)]
theorem gO_e (h : ∀ m, m < N → h' m = sH b u g m) : zExt N g (gO b g h') := fun m hm => by
  by_cases q : m < b ∨ b + 72 ≤ m
  · rw [gO_o q, h m hm, sH_out q]
  · exact if_pos (by omega)
theorem gO_t (hT : zTop h' N) (hN : b + 72 ≤ N) : zTop (gO b g h') N := fun m hm => (gO_o (by omega)).trans (hT m hm)
/-- the chain of a fault in a text -/
theorem tf_fC {M : Nat} {h0 : zH} {e : Int} {c : Nat → Int} (hM : aw b M) (hM1 : aw b (M + 1)) (g1 : g M = some (f14 h0 (.ref (M + 1)) 2 e)) (g2 : g (M + 1) = some (f7 h0 (.ref (M + 1)) (100 + e))) (c0 : c 0 = 2) (c1 : c 1 = 100 + e) : fC b g c 1 0 M :=
  ⟨M + 1, by omega, fO.mk hM (Or.inr ⟨Or.inr (Or.inl rfl), rfl⟩) g1 rfl rfl c0, fO.mk hM1 (Or.inl ⟨rfl, rfl⟩) g2 rfl rfl c1⟩
/-- the chain of a refused job -/
theorem rf_fC {P P' : Nat} {h0 : zH} {x k i : Int} {c : Nat → Int} (hP : aw b P) (hP1 : aw b (P + 1)) (hP2 : aw b (P + 2)) (g1 : g (P + 1) = some (f8 17 h0 (.ref (P + 2)) 3)) (g2 : g (P + 2) = some (f7 h0 (.ref P) (100 + x))) (g3 : g P = some (f8 16 h0 (.ref P') k)) (g4 : (k ≠ 3 ∧ P' = P) ∨ (k = 3 ∧ aw b P' ∧ P' < P ∧ g P' = some (f7 h0 (.ref P') (100 + i)))) (c0 : c 0 = 3) (c1 : c 1 = 100 + x) (c2 : c 2 = k) (c3 : k = 3 → c 3 = 100 + i) : fC b g c (if k = 3 then 3 else 2) 0 (P + 1) := by
  have q1 : fO b g (P + 1) (P + 2) (c 0) := fO.mk hP1 (Or.inr ⟨Or.inr (Or.inr (Or.inr rfl)), rfl⟩) g1 rfl rfl c0
  have q2 : fO b g (P + 2) P (c 1) := fO.mk hP2 (Or.inl ⟨rfl, rfl⟩) g2 rfl rfl c1
  have q3 : fO b g P P' (c 2) := fO.mk hP (Or.inr ⟨Or.inr (Or.inr (Or.inl rfl)), rfl⟩) g3 rfl rfl c2
  rcases g4 with ⟨k3, rfl⟩ | ⟨k3, a1, a2, a3⟩
  · rw [if_neg k3]
    exact ⟨P' + 2, by omega, q1, P', by omega, q2, q3⟩
  · rw [if_pos k3]
    exact ⟨P + 2, by omega, q1, P, by omega, q2, P', by omega, q3, fO.mk a1 (Or.inl ⟨rfl, rfl⟩) a3 rfl rfl (c3 k3)⟩
theorem x1_create {s V n : Nat} {t : Nat → Int} (hC : CG b N u g w) (hT : TxH g s V t n) (hs : aw b s) (hV : aw b V) (hn : n ≤ 80) : zMet yX1_create (ws_ yX1_create cX1_create 4 (some .int)) 13 [.ref 1040, .ref s] (sH b u g) (crQ b N u g w t n) 2830 33000 := by
  have n8 := hC.n8
  obtain ⟨a1, a2, a3, a4, a5, a6, a7, a8, a9, a10, sv, T, fl, cl, e1, e2, e5, e6, e7⟩ := id hC
  have hx : sH b u g 1040 = some (oX b sv T fl cl (w 10 0)) := (sH_out (by omega)).trans e1
  obtain ⟨K9, cc, f9, x1, x2, x3⟩ := id hT
  have sN := a4.lt x1
  have vN := a4.lt x2
  have s8 := hs.1
  have v8 := hV.1
  have k1 := x13_init (h := zup (sH b u g) N (.inr (12, [.null, .int 0]))) (r := N) (s := s) (zup_at _ _ _) n8.2.2.2
  rw [zup_zup, show zup (sH b u g) N (oRd s 0) = sH b u (zup g N (oRd s 0)) from sH_upo (by omega)] at k1
  have tx1 : TxH (sH b u (zup g N (oRd s 0))) s V t n := ⟨K9, cc, f9, (sH_out hs.2).trans ((zup_ne (by omega)).trans x1), (sH_out hV.2).trans ((zup_ne (by omega)).trans x2), x3⟩
  have k2 := x13_read (h := sH b u (zup g N (oRd s 0))) (N := N + 1) (r := N) (s := s) (V := V) (t := t) (n := n) ((a3.up n8.2.2.2).sh n8.1) ((sH_out (by omega)).trans (zup_at _ _ _)) n8.2.2.2 (by omega) (by omega) tx1 hn (fun m hm => (sH_out (by omega)).trans ((zup_ne (by omega)).trans (a4 m (by omega)))) (by omega) (by omega) (by omega) (by omega)
  have lkr : sH b u (zup g N (oRd s 0)) N = some (oRd s 0) := (sH_out (by omega)).trans (zup_at _ _ _)
  have h1g : ∀ m, m < N → sH b u (zup g N (oRd s 0)) m = sH b u g m := fun m hm => by rw [← sH_upo (by omega)]; exact zup_ne (by omega)
  have fr := hC.fr
  generalize hQ : crQ b N u g w t n = Q
  rcases hrd : rdA t n 20 0 J00 0 with x | e
  rotate_left
  · have hrd' : rdA t n 20 0 (fun _ => (fun _ => 0, 0, fun _ => (0, 0, 0))) 0 = .inr e := hrd
    rw [hrd'] at k2
    dsimp only at k2
    have hF : ∀ q h1, (∃ M, (.inr q : zO) = .inr M ∧ FtH (sH b u (zup g N (oRd s 0))) h1 (N + 1) N M e) → Q (.inr q) h1 := fun q h1 ⟨M, z, f1, f2, f3, f4, f5⟩ => by
      cases z
      have lo : ∀ m, m < N → h1 m = sH b u g m := fun m hm => (f5 m (by omega) (by omega)).trans (h1g m hm)
      rw [← hQ]
      unfold crQ
      rw [hrd]
      have gM : gO b g h1 q = _ := (gO_o (by omega)).trans f2
      have gM1 : gO b g h1 (q + 1) = _ := (gO_o (by omega)).trans f3
      exact ⟨q, gO b g h1, _, q + 2, rfl, gO_sH (fun m m1 m2 => lo m (by omega)), gM, fun c c0 c1 => tf_fC ⟨by omega, Or.inr (by omega)⟩ ⟨by omega, Or.inr (by omega)⟩ gM gM1 c0 c1, gO_e lo, gO_t f4 (by omega), by omega⟩
    clear hQ
    refine zMet.of (by decide) (Nat.le_of_ble_eq_true rfl) fun X K => ?_
    refine z_new K (N) nw_X1_302 fr (by omega) (by omega) (by omega) dX1_create_0 ?_
    refine z_dup K dX1_create_3 rfl ?_
    refine z_aload_n K dX1_create_4 rfl rfl rfl ?_
    refine z_cI (fs := []) K (k1) cI_X1_304 rfl rfl (by omega) (by omega) (by omega) (Nat.le_of_ble_eq_true rfl) dX1_create_5 zvX (zvK ?_)
    refine z_callV K k2 cV_X1_307_X13 lkr rfl rfl rfl (by omega) (by omega) (by omega) (Nat.le_of_ble_eq_true rfl) dX1_create_8 (fun q h1 hq => z_out K rfl (by omega) (by omega) (hF q h1 hq)) (fun v h1 hq => ?_)
    obtain ⟨M, z, -⟩ := hq
    cases z
  have hrd' : rdA t n 20 0 (fun _ => (fun _ => 0, 0, fun _ => (0, 0, 0))) 0 = .inl x := hrd
  rw [hrd'] at k2
  dsimp only at k2
  obtain ⟨tok, k7, k17⟩ := rdA_v (t := t) (n := n) 20 0 J00 0 x (by omega) (by omega) (fun y hy => by omega) hrd
  have xr : 1 ≤ x.1 ∧ x.1 ≤ 12 := by omega
  obtain ⟨B, hB⟩ : ∃ B, B = N + 1 + 4 + 30 * x.1 := ⟨_, rfl⟩
  -- after the creator's work
  have good : ∀ (q : Int) (u' : tW) (g3 : zH) (u2 : tW), u' 0 = u 0 → u' 5 2 = -1 → u' 5 3 = 0 → u' 8 = u 8 → (∀ m, m < 4 → u' 7 m = if u 0 (151 + m) = 0 then 0 else 1) → u' 3 = (fun _ => 0) → zExt B (gO b g (jsH (sH b u (zup g N (oRd s 0))) (N + 1) N s x.1 x.2 q)) g3 → zTop g3 (B + 76) → crS u' u2 → crA x.2 x.1 0 (u 0) = .inl (u2 0) → Q (.inl (some (.int (iI x.1)))) (sH B u2 (zup (zup (sH b u g3) (B + 76) (oCr B)) 1040 (oX B sv T fl cl (w 10 0)))) := by
    intro q u' g3 u2 p0 p52 p53 p8 p7 p3 hge hgt hcs hcr
    generalize hG : zup (zup (sH b u g3) (B + 76) (oCr B)) 1040 (oX B sv T fl cl (w 10 0)) = G
    have low : ∀ m, m < N → m ≠ 1040 → G m = sH b u g m := fun m q1 q2 => by
      rw [← hG, zup_ne q2, zup_ne (by omega)]
      by_cases z : m < b ∨ b + 72 ≤ m
      · rw [sH_out z, hge m (by omega), gO_o z, jsH_lo (by omega) (by omega), h1g m q1]
      · obtain ⟨i, rfl⟩ : ∃ i, m = b + i := ⟨m - b, by omega⟩
        rw [sH_in i (by omega), sH_in i (by omega)]
    have kpG : kp b N g G := fun m q1 q2 => (low m q1 (by have := q2.1; omega)).trans (sH_out q2.2)
    rw [← hQ]
    unfold crQ
    rw [hrd]
    dsimp only
    rw [hcr]
    have ew : ∀ y, y ≠ 0 → wRow w (u2 0) y = w y := fun y hy => wRow_f hy
    refine ⟨B, u2, G, B + 77, rfl, rfl, ⟨by omega, by omega, a3.ext (N := 1000) (fun m z => (low m (by omega) (by omega)).trans (sH_out (by omega))) (by omega), fun m z => ?_, wRow_0.symm, hcs.2.2, fun m i m0 m1 i0 i1 => ?_, by rw [hcs.1 5 (by decide) (by decide)]; exact p52, by rw [hcs.1 5 (by decide) (by decide), p53]; omega, fun k => by rw [hcs.1 3 (by decide) (by decide), p3]; show (0 : Int) ≤ 0 ∧ (0 : Int) ≤ 100000; decide, sv, T, fl, cl, ?_, e2.mv a4 kpG (Or.inr (by omega)) (by omega) (ew 2 (by decide)) (ew 1 (by decide)), e5.mv a4 kpG (Or.inr (by omega)) (ew 4 (by decide)) (ew 5 (by decide)), e6.mv a4 kpG (Or.inr (by omega)) (ew 6 (by decide)) (ew 7 (by decide)), e7.mv a4 kpG (Or.inr (by omega)) (ew 8 (by decide)) (ew 9 (by decide))⟩, fun m z => (low m (by omega) (by omega)).trans (sH_out (by omega))⟩
    · rw [← hG]; exact (zup_ne (by omega)).trans ((zup_ne (by omega)).trans ((sH_out (by omega)).trans (hgt m (by omega))))
    · have r0 : ∀ j, 142 ≤ j → j < 179 → u2 0 j = u 0 j := fun j j1 j2 => (hcs.2.1 j j1 j2).trans (by rw [p0])
      rw [r0 _ (by omega) (by omega)] at i1
      have bn := (hC.A.2.2.2.2.2 m m0 m1).1
      unfold sBn at bn
      rw [r0 _ (by omega) (by omega), r0 _ (by omega) (by omega), hcs.1 8 (by decide) (by decide), hcs.1 7 (by decide) (by decide), p8]
      obtain ⟨c1, c2, c3, c4⟩ := a7 m i m0 m1 i0 i1
      have lt := a4.lt c4
      have h40 : (u 8 (3 * m.toNat + i.toNat)).toNat ≠ 1040 := fun e => by rw [e, e1] at c4; cases c4
      refine ⟨?_, Or.inl (by omega), c3, (low _ lt h40).trans ((sH_out c2).trans c4)⟩
      rw [p7 m.toNat (by omega), if_neg (by rw [show 151 + m.toNat = (151 + m).toNat by omega]; omega)]
      decide
    · rw [← hG, zup_at, ew 10 (by decide)]
  have badC : ∀ (q : Int) (u' : tW) (g3 : zH) (M : Nat) (h2 : zH) (y : Nat × Int × Int), zExt B (gO b g (jsH (sH b u (zup g N (oRd s 0))) (N + 1) N s x.1 x.2 q)) g3 → crA x.2 x.1 0 (u 0) = .inr y → RfH (sH B u' (zup (sH b u g3) (B + 76) (oCr B))) h2 B (B + 77) M y.1 y.2.1 y.2.2 → Q (.inr M) h2 := by
    intro q u' g3 M h2 y hge hcr ⟨P, r1, r2, r3, r4, ⟨P', r5, r6⟩, r7, r8⟩
    have lo : ∀ m, m < N → h2 m = sH b u g m := fun m hm => by
      rw [r8 m (by omega) (by omega), sH_out (by omega), zup_ne (by omega)]
      by_cases z : m < b ∨ b + 72 ≤ m
      · rw [sH_out z, hge m (by omega), gO_o z, jsH_lo (by omega) (by omega), h1g m hm]
      · obtain ⟨i, rfl⟩ : ∃ i, m = b + i := ⟨m - b, by omega⟩
        rw [sH_in i (by omega), sH_in i (by omega)]
    have aw' : ∀ m, N ≤ m → aw b m := fun m hm => ⟨by omega, Or.inr (by omega)⟩
    have gg : ∀ m, N ≤ m → gO b g h2 m = h2 m := fun m hm => gO_o (by omega)
    rw [← hQ]
    unfold crQ
    rw [hrd]
    dsimp only
    rw [hcr]
    dsimp only
    rw [r2]
    refine ⟨P + 1, gO b g h2, _, P + 3, rfl, gO_sH (fun m m1 m2 => lo m (by omega)), (gg (P + 1) (by omega)).trans r3, fun c c0 c1 c2 c3 => ?_, gO_e lo, gO_t r7 (by omega), by omega⟩
    refine rf_fC (P' := P') (aw' _ (by omega)) (aw' _ (by omega)) (aw' _ (by omega)) ((gg (P + 1) (by omega)).trans r3) ((gg (P + 2) (by omega)).trans r4) ((gg P (by omega)).trans r5) ?_ c0 c1 c2 c3
    exact r6.imp id fun ⟨z1, z2, z3, z4⟩ => ⟨z1, aw' _ (by omega), z3, (gg P' (by omega)).trans z4⟩
  clear hQ
  refine zMet.of (by decide) (Nat.le_of_ble_eq_true rfl) fun X K => ?_
  have segC : ∀ (q : Int) (u' : tW) (g3 : zH), u' 0 = u 0 → u' 5 2 = -1 → u' 5 3 = 0 → u' 8 = u 8 → (∀ m, m < 4 → u' 7 m = if u 0 (151 + m) = 0 then 0 else 1) → u' 3 = (fun _ => 0) → zExt B (gO b g (jsH (sH b u (zup g N (oRd s 0))) (N + 1) N s x.1 x.2 q)) g3 → zTop g3 (B + 76) → ∀ env, zsub env [(0, .ref 1040), (2, .ref (N + 1)), (3, .ref B)] → zW X Q (sH B u' (sH b u g3)) 1522 15715 24 env [] := by
    intro q u' g3 p0 p52 p53 p8 p7 p3 hge hgt env he
    refine zW.cut he ?_
    have fr2 : sH B u' (sH b u g3) (B + 76) = none := (sH_out (by omega)).trans ((sH_out (by omega)).trans (hgt _ (by omega)))
    have kci := x16_init (h := zup (sH B u' (sH b u g3)) (B + 76) (.inr (15, [.null]))) (C := B + 76) (b := B) (zup_at _ _ _) (by omega)
    rw [zup_zup, show zup (sH B u' (sH b u g3)) (B + 76) (oCr B) = sH B u' (zup (sH b u g3) (B + 76) (oCr B)) from sH_upo (by omega)] at kci
    have g3m : ∀ m, N + 1 ≤ m → m < B → g3 m = jsH (sH b u (zup g N (oRd s 0))) (N + 1) N s x.1 x.2 q m := fun m m1 m2 => (hge m m2).trans (gO_o (by omega))
    have tl : TL (zup (sH b u g3) (B + 76) (oCr B)) (N + 1) x.1 (fun y => N + 1 + 4 + 30 * y) x.2 B := jsH_TL (h := sH b u (zup g N (oRd s 0))) (r := N) (s := s) (q := q) (by omega) xr tok (fun m m1 m2 => (zup_ne (by omega)).trans ((sH_out (by omega)).trans (g3m m m1 (by omega)))) (by omega)
    have am3 : Am (zup (sH b u g3) (B + 76) (oCr B)) := a3.ext (N := 1000) (fun m z => (zup_ne (by omega)).trans ((sH_out (by omega)).trans ((hge m (by omega)).trans ((gO_o (by omega)).trans ((jsH_lo (by omega) (by omega)).trans ((h1g m (by omega)).trans (sH_out (by omega)))))))) (by omega)
    have hS' : SIr (u' 0) := by rw [p0]; exact a6
    have kcr := x16_create (b := B) (u := u') (g := zup (sH b u g3) (B + 76) (oCr B)) (C := B + 76) (N := B + 77) (L := N + 1) (n := x.1) (Bf := fun y => N + 1 + 4 + 30 * y) (J := x.2) (by omega) (zup_at _ _ _) (Or.inr (by omega)) tl (by omega) hS' am3 (fun m hm => (zup_ne (by omega)).trans ((sH_out (by omega)).trans (hgt m (by omega)))) (by omega)
    rw [p0] at kcr
    have lkC : sH B u' (zup (sH b u g3) (B + 76) (oCr B)) (B + 76) = some (oCr B) := (sH_out (by omega)).trans (zup_at _ _ _)
    rcases hcr : crA x.2 x.1 0 (u 0) with s9 | y
    · rw [hcr] at kcr
      dsimp only at kcr
      have lkx : ∀ u2, sH B u2 (zup (sH b u g3) (B + 76) (oCr B)) 1040 = some (oX b sv T fl cl (w 10 0)) := fun u2 => (sH_out (by omega)).trans ((zup_ne (by omega)).trans ((sH_out (by omega)).trans ((hge 1040 (by omega)).trans ((gO_o (by omega)).trans ((jsH_lo (by omega) (by omega)).trans ((h1g 1040 (by omega)).trans hx))))))
      have hset : ∀ u2, zup (sH B u2 (zup (sH b u g3) (B + 76) (oCr B))) 1040 (oX B sv T fl cl (w 10 0)) = sH B u2 (zup (zup (sH b u g3) (B + 76) (oCr B)) 1040 (oX B sv T fl cl (w 10 0))) := fun u2 => sH_upo (by omega)
      obtain ⟨⟨c9, a9', K8, t1, -⟩, -⟩ := id tl
      have lkl : ∀ u2, sH B u2 (zup (zup (sH b u g3) (B + 76) (oCr B)) 1040 (oX B sv T fl cl (w 10 0))) (N + 1) = some (oL c9 a9' x.1) := fun u2 => (sH_out (by omega)).trans ((zup_ne (by omega)).trans t1)
      have ksz := fun u2 => jl_size (lkl u2)
      refine z_new K (B + 76) nw_X1_313 fr2 (by omega) (by omega) (by omega) dX1_create_24 ?_
      refine z_dup K dX1_create_27 rfl ?_
      refine z_aload_n K dX1_create_28 rfl rfl rfl ?_
      refine z_cI (fs := []) K (kci) cI_X1_315 rfl rfl (by omega) (by omega) (by omega) (Nat.le_of_ble_eq_true rfl) dX1_create_29 zvX (zvK ?_)
      refine z_aload_n K dX1_create_32 rfl rfl rfl ?_
      refine z_cVW K (kcr) cV_X1_316_X16 (lkC) rfl rfl rfl (by omega) (by omega) (by omega) (Nat.le_of_ble_eq_true rfl) dX1_create_33 (fun q h1 hq => by obtain ⟨_, z, -⟩ := hq; cases z) ?_
      rintro v h1 ⟨u2, z, rfl, hcs, hu2⟩
      cases z
      refine z_aload_n K dX1_create_36 rfl rfl rfl ?_
      refine z_aload_n K dX1_create_37 rfl rfl rfl ?_
      refine z_putE K fd_X1_16_1 ⟨_, rfl, Or.inl rfl⟩ (lkx _) (by omega) (Nat.le_of_ble_eq_true rfl) (zf_r) dX1_create_38 (hset _) ?_
      refine z_aload_n K dX1_create_41 rfl rfl rfl ?_
      refine z_callV K (ksz _) cV_X1_43_J2 (lkl _) rfl rfl rfl (by omega) (by omega) (by omega) (Nat.le_of_ble_eq_true rfl) dX1_create_42 zrX (zrK ?_)
      exact z_iret K (by omega) (by omega) (good q u' g3 u2 p0 p52 p53 p8 p7 p3 hge hgt hcs (by rw [hcr, hu2])) dX1_create_45
    · rw [hcr] at kcr
      dsimp only at kcr
      refine z_new K (B + 76) nw_X1_313 fr2 (by omega) (by omega) (by omega) dX1_create_24 ?_
      refine z_dup K dX1_create_27 rfl ?_
      refine z_aload_n K dX1_create_28 rfl rfl rfl ?_
      refine z_cI (fs := []) K (kci) cI_X1_315 rfl rfl (by omega) (by omega) (by omega) (Nat.le_of_ble_eq_true rfl) dX1_create_29 zvX (zvK ?_)
      refine z_aload_n K dX1_create_32 rfl rfl rfl ?_
      refine z_cVW K kcr cV_X1_316_X16 lkC rfl rfl rfl (by omega) (by omega) (by omega) (Nat.le_of_ble_eq_true rfl) dX1_create_33 (fun q9 h1 hq => z_out K rfl (by omega) (by omega) (by obtain ⟨M, z, hr⟩ := hq; cases z; exact badC q u' g3 _ h1 y hge hcr hr)) (fun v h1 hq => ?_)
      obtain ⟨M, z, -⟩ := hq
      cases z
  have segB : ∀ q : Int, ∀ env, zsub env [(0, .ref 1040), (2, .ref (N + 1))] → zW X Q (jsH (sH b u (zup g N (oRd s 0))) (N + 1) N s x.1 x.2 q) 1401 14002 12 env [] := by
    intro q env he
    refine zW.cut he ?_
    have top : zTop (jsH (sH b u (zup g N (oRd s 0))) (N + 1) N s x.1 x.2 q) B := by
      rw [hB]
      exact jsH_top (fun m hm => (sH_out (by omega)).trans ((zup_ne (by omega)).trans (a4 m (by omega)))) (by omega)
    have lo : ∀ m, m < N → jsH (sH b u (zup g N (oRd s 0))) (N + 1) N s x.1 x.2 q m = sH b u g m := fun m hm => (jsH_lo (by omega) (by omega)).trans (h1g m hm)
    have eg : jsH (sH b u (zup g N (oRd s 0))) (N + 1) N s x.1 x.2 q = sH b u (gO b g (jsH (sH b u (zup g N (oRd s 0))) (N + 1) N s x.1 x.2 q)) := gO_sH (fun m m1 m2 => lo m (by omega))
    have ext2 : zExt N g (gO b g (jsH (sH b u (zup g N (oRd s 0))) (N + 1) N s x.1 x.2 q)) := gO_e lo
    have top2 : zTop (gO b g (jsH (sH b u (zup g N (oRd s 0))) (N + 1) N s x.1 x.2 q)) B := gO_t top (by omega)
    have segC := segC q
    rw [eg]
    clear eg lo top
    generalize gO b g (jsH (sH b u (zup g N (oRd s 0))) (N + 1) N s x.1 x.2 q) = g2 at ext2 top2 segC ⊢
    have kcp := x2_copy (b2 := b) (u2 := u) (b := B) (g := g2) n8.1 (by omega) (a3.ext ext2 n8.2.2.2) top2 hC.A hC.O a6.2.2.2 (a7.ext ext2 a4)
    have fr2 : sH b u g2 B = none := (sH_out (by omega)).trans (top2 B (Nat.le_refl _))
    have lkx : ∀ c, zup (sH b u g2) B c 1040 = some (oX b sv T fl cl (w 10 0)) := fun c => (zup_ne (by omega)).trans ((sH_out (by omega)).trans ((ext2 1040 (by omega)).trans e1))
    refine z_new K (B) nw_X1_13 fr2 (by omega) (by omega) (by omega) dX1_create_12 ?_
    refine z_dup K dX1_create_15 rfl ?_
    refine z_aload_n K dX1_create_16 rfl rfl rfl ?_
    refine z_get K fd_X1_16_1 (lkx _) rfl dX1_create_17 ?_
    refine z_cI (fs := []) K (kcp) cI_X1_310 rfl rfl (by omega) (by omega) (by omega) (Nat.le_of_ble_eq_true rfl) dX1_create_20 (fun q h1 hq => by obtain ⟨_, _, z, -⟩ := hq; cases z) ?_
    rintro v h1 ⟨u', g3, z, rfl, p0, p52, p53, p8, p7, p3, hge, hgt⟩
    cases z
    refine z_astore_n K dX1_create_23 rfl rfl (by decide) rfl ?_
    exact zW.widen (by omega) (by omega) (segC u' g3 p0 p52 p53 p8 p7 p3 hge hgt _ ⟨rfl, rfl, rfl, trivial⟩)
  refine z_new K (N) nw_X1_302 fr (by omega) (by omega) (by omega) dX1_create_0 ?_
  refine z_dup K dX1_create_3 rfl ?_
  refine z_aload_n K dX1_create_4 rfl rfl rfl ?_
  refine z_cI (fs := []) K (k1) cI_X1_304 rfl rfl (by omega) (by omega) (by omega) (Nat.le_of_ble_eq_true rfl) dX1_create_5 zvX (zvK ?_)
  refine z_callV K (k2) cV_X1_307_X13 (lkr) rfl rfl rfl (by omega) (by omega) (by omega) (Nat.le_of_ble_eq_true rfl) dX1_create_8 (fun q h1 hq => by obtain ⟨_, z, -⟩ := hq; cases z) ?_
  rintro v h1 ⟨q, z, rfl⟩
  cases z
  refine z_astore_n K dX1_create_11 rfl rfl (by decide) rfl ?_
  exact zW.widen (by omega) (by omega) (segB q _ ⟨rfl, rfl, trivial⟩)
end XP8

