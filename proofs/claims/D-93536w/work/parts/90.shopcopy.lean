/-! ===== the component: a shop is copied: the walk ===== -/
section XSc
variable {b b2 : Nat} {u2 : tW} {g : zH}
/-- what a world of the copy keeps while jobs and operations are added -/
def cpW (u : tW) : Prop := (∀ f, f ≠ 0 → f ≠ 6 → u f = uNew f) ∧ ∀ i, 142 ≤ i → i < 179 → u 0 i = 0
theorem cpW.nj {u : tW} {k : Nat} {r d w : Int} (h : cpW u) (h0 : u 0 0 = k) (hk : k < 5) : cpW (wNJ u k r d w) := by
  refine ⟨fun f h1 h2 => by rw [wNJ_f ⟨h1, h2⟩]; exact h.1 f h1 h2, fun i i1 i2 => ?_⟩
  rw [wNJ_0, sNJ_n (by rw [h0]; omega)]
  exact h.2 i i1 i2
theorem cpW.no {u : tW} {j m : Nat} {d f : Int} (h : cpW u) (hn : nop (u 0) j m) : cpW (wNO u j m d f) := by
  refine ⟨fun q h1 h2 => by rw [wNO_f ⟨h1, h2⟩]; exact h.1 q h1 h2, fun i i1 i2 => ?_⟩
  obtain ⟨a1, a2, a3, a4, a5⟩ := hn
  rw [wNO_0, sNO_n (by omega)]
  exact h.2 i i1 i2
theorem uNew_cp {s : Nat → Int} : cpJ s (uNew 0) 0 ∧ cpW uNew := by
  have z : ∀ i, uNew 0 i = 0 := fun i => rfl
  refine ⟨⟨rfl, rfl, ⟨⟨⟨by rw [z]; omega, by rw [z]; omega⟩, fun j j0 j1 => by rw [z] at j1; omega⟩, ⟨⟨by rw [z]; omega, by rw [z]; omega⟩, fun j j0 j1 => by rw [z] at j1; omega⟩, fun j i j0 j1 => by rw [z] at j1; omega, fun k l k0 k1 => by rw [z] at k1; omega, fun c _ _ => by rw [z]; omega, fun m _ _ => ⟨by unfold sBn; rw [z]; omega, fun i i0 i1 => by unfold sBn at i1; rw [z] at i1; omega⟩⟩, fun m m0 m1 => ⟨by unfold sOn; rw [z]; omega, fun p p0 p1 => by unfold sOn at p1; rw [z] at p1; omega, fun p q p0 p1 => by unfold sOn at p1; rw [z] at p1; omega, fun k k0 k1 => by rw [z] at k1; omega⟩, fun j j0 j1 => by omega⟩, fun f _ _ => rfl, fun i _ _ => z i⟩
theorem x2_copy (hb2 : 1000 ≤ b2) (hlt : b2 + 72 ≤ b) (hAm : Am g) (hTp : zTop g b) (hA : WfA (u2 0)) (hO : WfO (u2 0)) (hM : Mono (u2 0)) (hB : BkOk b2 u2 g) :
    zMet yX2_init_2 (ws_ yX2_init_2 cX2_init_2 4 none) 9 [.ref b, .ref b2] (zup (sH b2 u2 g) b (.inr (2, [.null, .null, .null, .null, .null, .null, .null, .null, .null, .int 0, .int 0, .int 0, .int 0]))) (fun z h' => ∃ u' g', z = .inl none ∧ h' = sH b u' (sH b2 u2 g') ∧ u' 0 = u2 0 ∧ u' 5 2 = -1 ∧ u' 5 3 = 0 ∧ u' 8 = u2 8 ∧ (∀ m, m < 4 → u' 7 m = if u2 0 (151 + m) = 0 then 0 else 1) ∧ u' 3 = (fun _ => 0) ∧ zExt b g g' ∧ zTop g' (b + 76)) 120 1700 := by
  generalize hQ : (fun (z : zO) (h' : zH) => ∃ u' g', z = .inl none ∧ h' = sH b u' (sH b2 u2 g') ∧ u' 0 = u2 0 ∧ u' 5 2 = -1 ∧ u' 5 3 = 0 ∧ u' 8 = u2 8 ∧ (∀ m, m < 4 → u' 7 m = if u2 0 (151 + m) = 0 then 0 else 1) ∧ u' 3 = (fun _ => 0) ∧ zExt b g g' ∧ zTop g' (b + 76)) = Q
  have hq : ∀ u' g', u' 0 = u2 0 → u' 5 2 = -1 → u' 5 3 = 0 → u' 8 = u2 8 → (∀ m, m < 4 → u' 7 m = if u2 0 (151 + m) = 0 then 0 else 1) → u' 3 = (fun _ => 0) → zExt b g g' → zTop g' (b + 76) → Q (.inl none) (sH b u' (sH b2 u2 g')) := fun u' g' a1 a2 a3 a4 a5 a8 a6 a7 => by rw [← hQ]; exact ⟨u', g', rfl, rfl, a1, a2, a3, a4, a5, a8, a6, a7⟩
  clear hQ
  have h20 := hA.2.1.1
  have h05 := hA.1.1
  have hAm2 : Am (sH b2 u2 g) := hAm.sh hb2
  obtain ⟨⟨f1, hA1⟩, ⟨c7, hA7⟩, -⟩ := id hAm
  refine zMet.of (by decide) (Nat.le_of_ble_eq_true rfl) fun X K => ?_
  have cm : ∀ u g, sH b u (sH b2 u2 g) = sH b2 u2 (sH b u g) := fun u g => sH_comm (Or.inr hlt)
  have src : ∀ u g, sH b u (sH b2 u2 g) b2 = some (.inr (2, sF b2 u2)) := fun u g => (sH_out (by omega)).trans sH_shop
  -- the machines
  have lm : ∀ (v : tW), cpO (u2 0) (v 0) (u2 0 1) → cpW v → ∀ (r m : Nat), m + r = 4 → ∀ g', zExt b g g' → zTop g' (b + 72 + m) → ∀ env, zsub env [(0, .ref b), (1, .ref b2), (2, .int (iI m))] → zW X Q (cH b (cpP b v (wCp v u2) m) (sH b2 u2 g')) (109 + 2 * m) (1467 + 40 * m) 134 env [] := by
    intro v hv hvW r
    induction r with
    | zero =>
      intro m hm g' hx ht env he
      obtain rfl : m = 4 := by omega
      refine zW.cut he ?_
      rw [cH_congr (cpP_4 hA hv), ← sH_cH]
      have e5 : wCp v u2 5 = uNew 5 := by rw [wCp_f (by decide)]; exact hvW.1 5 (by decide) (by decide)
      have hfin := hq (wCp v u2) g' rfl (by rw [e5]; rfl) (by rw [e5]; rfl) rfl (fun m _ => rfl) (by rw [wCp_f (by decide)]; exact hvW.1 3 (by decide) (by decide)) hx ht
      refine z_iload_n K dX2_init_2_134 rfl rfl ?_
      refine j_iconst K dX2_init_2_135 ?_
      refine j_icmp_ge (tgt := 196) K dX2_init_2_136 rfl (by omega) (by omega) (fun c_136 => ?_) (fun c_136 => ?_)
      · exact z_vret K (by omega) (by omega) (hfin) dX2_init_2_196
      · exact absurd c_136 (by omega)
    | succ r ih =>
      intro m hm g' hx ht env he
      refine zW.cut he ?_
      have nx := ih (m + 1) (by omega)
      clear ih
      have hbk := hA.2.2.2.2.2 m (by omega) (by omega)
      have ebn : sBn (u2 0) m = u2 0 (151 + m) := congrArg (u2 0) (by omega)
      rw [ebn] at hbk
      obtain ⟨k, hk⟩ : ∃ k : Nat, u2 0 (151 + m) = k := ⟨(u2 0 (151 + m)).toNat, by omega⟩
      have hk3 : k ≤ 3 := by omega
      have v7 : v 7 m = 0 := by rw [hvW.1 7 (by decide) (by decide)]; rfl
      have v0 : v 0 (151 + m) = 0 := hvW.2 _ (by omega) (by omega)
      generalize hφ : cpP b v (wCp v u2) m = φ at *
      have hφn : ∀ i, ¬ cpM m i → φ i = sC b v i := fun i hi => by rw [← hφ]; exact cpP_n hi
      have t0 : wCp v u2 0 = u2 0 := rfl
      have t6 : wCp v u2 6 (4 + m) = v 6 (4 + m) + 1 := by rw [wCp_6, if_pos (by omega)]
      have t7 : wCp v u2 7 m = if k = 0 then 0 else 1 := by rw [wCp_7, hk]; by_cases z : k = 0; rw [if_pos (by omega), if_pos z]; rw [if_neg (by omega), if_neg z]
      have hin : ∀ i, i < 72 → cH b φ (sH b2 u2 g') (b + i) = φ i := fun i hi => cH_at hi
      have hout : ∀ x, x < b ∨ b + 72 ≤ x → cH b φ (sH b2 u2 g') x = sH b2 u2 g' x := fun x hx => cH_out hx
      -- the list of the source
      have hL : cH b φ (sH b2 u2 g') (b + 10 + m) = some (oL (v 6 (4 + m)) 1 0) := by
        rw [Nat.add_assoc b 10, hin _ (by omega), hφn _ (by unfold cpM; omega), sC_10 (by omega), v7, if_pos rfl, v0]
      obtain ⟨a, N9, f, hMs, haA, hkN, hN9, hfe⟩ : ∃ (a N9 : Nat) (f : Nat → Nat), cH b φ (sH b2 u2 g') (b2 + 10 + m) = some (oL (u2 6 (4 + m)) a k) ∧ cH b φ (sH b2 u2 g') a = some (aR N9 k f) ∧ k ≤ N9 ∧ N9 ≤ 1000 ∧ ∀ i, i < k → f i = (u2 8 (3 * m + i)).toNat := by
        have hc : cH b φ (sH b2 u2 g') (b2 + 10 + m) = some (oL (u2 6 (4 + m)) (if u2 7 m = 0 then 1 else b2 + 14 + m) (u2 0 (151 + m))) := by rw [hout _ (by omega), Nat.add_assoc b2 10, sH_in _ (by omega), sC_10 (by omega)]
        by_cases z7 : u2 7 m = 0
        · have k0 : k = 0 := by
            rcases Nat.eq_zero_or_pos k with z | z
            · exact z
            · have := (hB m 0 (by omega) (by omega) (by omega) (by rw [show (151 + (m : Int)).toNat = 151 + m by omega, hk]; omega)).1
              rw [Int.toNat_natCast] at this
              exact absurd z7 this
          refine ⟨1, 0, f1, by rw [hc, if_pos z7, hk], ?_, by omega, by omega, fun i hi => by omega⟩
          rw [hout _ (by omega), sH_out (by omega), hx _ (by omega), k0]
          exact hA1
        · refine ⟨b2 + 14 + m, 10, fun q => (u2 8 (3 * m + q)).toNat, by rw [hc, if_neg z7, hk], ?_, by omega, by omega, fun i hi => rfl⟩
          rw [hout _ (by omega), Nat.add_assoc b2 14, sH_in _ (by omega), sC_14 (by omega), if_neg z7, hk, Int.toNat_natCast]
      have hob : ∀ i, i < k → zOb (cH b φ (sH b2 u2 g')) (f i) := fun i hi => by
        rw [hfe i hi]
        obtain ⟨-, q2, q3, q4⟩ := hB m i (by omega) (by omega) (by omega) (by rw [show (151 + (m : Int)).toNat = 151 + m by omega, hk]; omega)
        rw [Int.toNat_natCast, Int.toNat_natCast] at q2 q3 q4
        have hlb : (u2 8 (3 * m + i)).toNat < b := by
          rcases Nat.lt_or_ge (u2 8 (3 * m + i)).toNat b with q | q
          · exact q
          · rw [hTp _ q] at q4; cases q4
        exact Or.inl ⟨_, _, _, by rw [hout _ (by omega), sH_out q2, hx _ hlb]; exact q4, rfl, q2300⟩
      have hal := jl_addAll (h := cH b φ (sH b2 u2 g')) (L := b + 10 + m) (M := b2 + 10 + m) (a := a) (N := N9) (k := k) (n0 := b + 72 + m) (nm := b + 14 + m) hL hMs (by rw [hout _ (by omega), sH_out (by omega), hx _ (by omega)]; exact hA1) haA (by rw [hout _ (by omega), sH_out (by omega), hx _ (by omega)]; exact hA7) hkN (by omega) hN9 hob (by rw [hout _ (by omega), sH_out (by omega)]; exact ht _ (by omega)) (by rw [Nat.add_assoc b 14, hin _ (by omega), hφn _ (by unfold cpM; omega), sC_14 (by omega), if_pos v7]) (by omega) (by omega) (by omega) (by omega)
      -- what it leaves
      have hst : ∃ (φ2 : Nat → Option zC) (g2 : zH), (if k = 0 then zup (zup (cH b φ (sH b2 u2 g')) (b + 72 + m) (aR 0 0 f)) (b + 10 + m) (oL (v 6 (4 + m) + 1) 1 0) else zup (zup (zup (cH b φ (sH b2 u2 g')) (b + 72 + m) (aR k k f)) (b + 14 + m) (aR 10 k f)) (b + 10 + m) (oL (v 6 (4 + m) + 1) (b + 14 + m) k)) = cH b φ2 (sH b2 u2 g2) ∧ φ2 (10 + m) = sC b (wCp v u2) (10 + m) ∧ φ2 (14 + m) = sC b (wCp v u2) (14 + m) ∧ (∀ i, i ≠ 10 + m → i ≠ 14 + m → φ2 i = φ i) ∧ zExt b g g2 ∧ zTop g2 (b + 72 + (m + 1)) := by
        have upo : ∀ c : zC, zup (cH b φ (sH b2 u2 g')) (b + 72 + m) c = cH b φ (sH b2 u2 (zup g' (b + 72 + m) c)) := fun c => by
          rw [← sH_upo (by omega)]
          funext x
          by_cases e : x = b + 72 + m
          · subst e; rw [zup_at, cH_out (by omega), zup_at]
          · rw [zup_ne e]
            by_cases h1 : x < b ∨ b + 72 ≤ x
            · rw [cH_out h1, cH_out h1, zup_ne e]
            · obtain ⟨j, rfl⟩ : ∃ j, x = b + j := ⟨x - b, by omega⟩
              rw [cH_at (by omega), cH_at (by omega)]
        have ex : ∀ c : zC, zExt b g (zup g' (b + 72 + m) c) := fun c i hi => (zup_ne (by omega)).trans (hx i hi)
        have tp : ∀ c : zC, zTop (zup g' (b + 72 + m) c) (b + 72 + (m + 1)) := fun c i hi => (zup_ne (by omega)).trans (ht i (by omega))
        by_cases z : k = 0
        · rw [if_pos z, upo, Nat.add_assoc b 10, cH_up (by omega)]
          refine ⟨_, _, rfl, ?_, ?_, fun i i1 i2 => if_neg i1, ex _, tp _⟩
          · rw [sC_10 (by omega), t6, t7, if_pos z, if_pos rfl, t0, hk, z]
            exact if_pos rfl
          · rw [sC_14 (by omega), t7, if_pos z, if_pos rfl]
            exact (if_neg (by omega)).trans (by rw [hφn _ (by unfold cpM; omega), sC_14 (by omega), if_pos v7])
        · rw [if_neg z, upo, Nat.add_assoc b 14, cH_up (by omega), Nat.add_assoc b 10, cH_up (by omega)]
          refine ⟨_, _, rfl, ?_, ?_, fun i i1 i2 => (if_neg i1).trans (if_neg i2), ex _, tp _⟩
          · rw [sC_10 (by omega), t6, t7, if_neg z, if_neg (by decide), t0, hk, Nat.add_assoc b 14]
            exact if_pos rfl
          · rw [sC_14 (by omega), t7, if_neg z, if_neg (by decide), t0, hk, Int.toNat_natCast]
            exact (if_neg (by omega)).trans ((if_pos rfl).trans (congrArg some (aR_congr rfl fun i hi => hfe i hi)))
      obtain ⟨φ2, g2, hst, p10, p14, po, hx2, ht2⟩ := hst
      rw [hst] at hal
      have q18 : cH b φ2 (sH b2 u2 g2) (b + 18) = some (oL (v 6 3) (b + 19) 4) := by rw [cH_at (by omega), po _ (by omega) (by omega), hφn _ (by unfold cpM; omega), sC_18]
      have q19 : cH b φ2 (sH b2 u2 g2) (b + 19) = some (aR 10 4 fun m => b + 20 + m) := by rw [cH_at (by omega), po _ (by omega) (by omega), hφn _ (by unfold cpM; omega), sC_19]
      have hgo : zG2 (b + 18) m (cH b φ2 (sH b2 u2 g2)) (b + 20 + m) := jl_get q18 q19 (by omega) (by omega) (by omega) (by omega) rfl
      have r18 : cH b φ2 (sH b2 u2 g2) (b2 + 18) = some (oL (u2 6 3) (b2 + 19) 4) := (cH_out (by omega)).trans sH_ords
      have hgs : zG2 (b2 + 18) m (cH b φ2 (sH b2 u2 g2)) (b2 + 20 + m) := jl_get r18 ((cH_out (by omega)).trans (sH_in 19 (by omega))) (by omega) (by omega) (by omega) (by omega) rfl
      have q20 : cH b φ2 (sH b2 u2 g2) (b + 20 + m) = some (oO (b + 24 + m) (v 0 (179 + m))) := by rw [Nat.add_assoc b 20, cH_at (by omega), po _ (by omega) (by omega), hφn _ (by unfold cpM; omega), sC_20 (by omega)]
      have q24 : cH b φ2 (sH b2 u2 g2) (b + 24 + m) = some (aI 5 fun q => v 0 (183 + 5 * m + q)) := by rw [Nat.add_assoc b 24, cH_at (by omega), po _ (by omega) (by omega), hφn _ (by unfold cpM; omega), sC_24 (by omega)]
      have htk := x3_take q20 q24 ((cH_out (by omega)).trans (sH_oN (b := b2) (u := u2) (g := g2) (m := m) (by omega))) ((cH_out (by omega)).trans (sH_rN (b := b2) (u := u2) (g := g2) (m := m) (by omega))) (by omega) (by omega)
      have hend : zup (zup (cH b φ2 (sH b2 u2 g2)) (b + 24 + m) (aI 5 fun q => u2 0 (183 + 5 * m + q))) (b + 20 + m) (oO (b + 24 + m) (u2 0 (179 + m))) = cH b (cpP b v (wCp v u2) (m + 1)) (sH b2 u2 g2) := by
        rw [Nat.add_assoc b 24, cH_up (by omega), Nat.add_assoc b 20, cH_up (by omega)]
        refine cH_congr (cpP_s (by omega) ?_ ?_ ?_ ?_ ?_)
        · exact (if_neg (by omega)).trans ((if_neg (by omega)).trans p10)
        · exact (if_neg (by omega)).trans ((if_neg (by omega)).trans p14)
        · rw [sC_20 (by omega), t0, Nat.add_assoc b 24]
          exact if_pos rfl
        · rw [sC_24 (by omega), t0]
          exact (if_neg (by omega)).trans (if_pos rfl)
        · intro i i1 i2 i3 i4
          rw [hφ]
          exact (if_neg i3).trans ((if_neg i4).trans (po i i1 i2))
      rw [hend] at htk
      have nx := nx g2 hx2 ht2
      have s0 : cH b φ (sH b2 u2 g') b = some (.inr (2, sF b v)) := by rw [cH_at0, hφn 0 (by unfold cpM; omega), sC_0]
      have s1 : cH b φ2 (sH b2 u2 g2) b = some (.inr (2, sF b v)) := by rw [cH_at0, po 0 (by omega) (by omega), hφn 0 (by unfold cpM; omega), sC_0]
      have s2 : ∀ φ g', cH b φ (sH b2 u2 g') b2 = some (.inr (2, sF b2 u2)) := fun φ g' => (cH_out (by omega)).trans sH_shop
      have s8 : cH b φ (sH b2 u2 g') (b + 8) = some (oL (v 6 2) (b + 9) 4) := by rw [hin _ (by omega), hφn _ (by unfold cpM; omega), sC_8]
      have s9 : cH b φ (sH b2 u2 g') (b + 9) = some (aR 10 4 fun m => b + 10 + m) := by rw [hin _ (by omega), hφn _ (by unfold cpM; omega), sC_9]
      have hg8 : zG2 (b + 8) m (cH b φ (sH b2 u2 g')) (b + 10 + m) := jl_get s8 s9 (by omega) (by omega) (by omega) (by omega) rfl
      have r8 : cH b φ (sH b2 u2 g') (b2 + 8) = some (oL (u2 6 2) (b2 + 9) 4) := (cH_out (by omega)).trans sH_brks
      have hg9 : zG2 (b2 + 8) m (cH b φ (sH b2 u2 g')) (b2 + 10 + m) := jl_get r8 ((cH_out (by omega)).trans (sH_in 9 (by omega))) (by omega) (by omega) (by omega) (by omega) rfl
      clear hφ hst hob
      refine z_iload_n K dX2_init_2_134 rfl rfl ?_
      refine j_iconst K dX2_init_2_135 ?_
      refine j_icmp_ge (tgt := 196) K dX2_init_2_136 rfl (by omega) (by omega) (fun c_136 => ?_) (fun c_136 => ?_)
      · exact absurd c_136 (by omega)
      · refine z_aload_n K dX2_init_2_139 rfl rfl rfl ?_
        refine z_get K fd_X2_25_2 ((by first | exact s0 | exact s1)) rfl dX2_init_2_140 ?_
        refine z_iload_n K dX2_init_2_143 rfl rfl ?_
        refine z_callV K (hg8) cV_X2_59_J2 (s8) rfl rfl rfl (by omega) (by omega) (by omega) (Nat.le_of_ble_eq_true rfl) dX2_init_2_144 zrX (zrK ?_)
        refine z_castS K (hL) rfl q146 dX2_init_2_147 ?_
        refine z_aload_n K dX2_init_2_150 rfl rfl rfl ?_
        refine z_get K fd_X2_25_2 ((s2 _ _)) rfl dX2_init_2_151 ?_
        refine z_iload_n K dX2_init_2_154 rfl rfl ?_
        refine z_callV K (hg9) cV_X2_59_J2 (r8) rfl rfl rfl (by omega) (by omega) (by omega) (Nat.le_of_ble_eq_true rfl) dX2_init_2_155 zrX (zrK ?_)
        refine z_castY K (hMs) rfl q650 q659 dX2_init_2_158 ?_
        refine z_callV K (hal) cV_X2_103_J2 (hL) rfl rfl rfl (by omega) (by omega) (by omega) (Nat.le_of_ble_eq_true rfl) dX2_init_2_161 (fun _ _ ⟨_, e, _⟩ => nomatch e) ?_
        rintro _ _ ⟨b9, ez, rfl⟩
        cases ez
        refine z_pop K dX2_init_2_164 rfl ?_
        refine z_aload_n K dX2_init_2_165 rfl rfl rfl ?_
        refine z_get K fd_X2_28_2 ((by first | exact s0 | exact s1)) rfl dX2_init_2_166 ?_
        refine z_iload_n K dX2_init_2_169 rfl rfl ?_
        refine z_callV K (hgo) cV_X2_59_J2 (q18) rfl rfl rfl (by omega) (by omega) (by omega) (Nat.le_of_ble_eq_true rfl) dX2_init_2_170 zrX (zrK ?_)
        refine z_castS K (q20) rfl q246 dX2_init_2_173 ?_
        refine z_aload_n K dX2_init_2_176 rfl rfl rfl ?_
        refine z_get K fd_X2_28_2 ((s2 _ _)) rfl dX2_init_2_177 ?_
        refine z_iload_n K dX2_init_2_180 rfl rfl ?_
        refine z_callV K (hgs) cV_X2_59_J2 (r18) rfl rfl rfl (by omega) (by omega) (by omega) (Nat.le_of_ble_eq_true rfl) dX2_init_2_181 zrX (zrK ?_)
        refine z_castS K (((cH_out (by omega)).trans (sH_oN (b := b2) (u := u2) (g := g2) (m := m) (by omega)))) rfl q246 dX2_init_2_184 ?_
        refine z_callV K (htk) cV_X2_107_X3 (q20) rfl rfl rfl (by omega) (by omega) (by omega) (Nat.le_of_ble_eq_true rfl) dX2_init_2_187 zvX (zvK ?_)
        refine j_iinc K dX2_init_2_190 rfl (by decide) rfl ?_
        refine z_goto (tgt := 134) K dX2_init_2_193 rfl ?_
        exact zW.widen (by omega) (by omega) (nx _ ⟨rfl, rfl, rfl, trivial⟩)
  -- the operations
  have lo : ∀ (r k : Nat), (k : Int) + r = u2 0 1 → ∀ u : tW, cpO (u2 0) (u 0) k → cpW u → ∀ env, zsub env [(0, .ref b), (1, .ref b2), (2, .int (iI k))] → zW X Q (sH b u (sH b2 u2 g)) (49 + 3 * k) (467 + 50 * k) 64 env [] := by
    intro r
    induction r with
    | zero =>
      intro k hk u hu hW env he
      refine zW.cut he ?_
      have hk' : u2 0 1 = k := by omega
      have go := lm u (by rw [hk']; exact hu) hW 4 0 (by omega) g zExt.rf (fun i hi => hTp i (by omega))
      have go : ∀ env, zsub env [(0, .ref b), (1, .ref b2), (2, .int (iI 0))] → zW X Q (cH b (cpP b u (wCp u u2) 0) (sH b2 u2 g)) 109 1467 134 env [] := go
      clear lm
      have s7 : sH b u (sH b2 u2 g) (b2 + 7) = some (aI 9 fun c => u2 0 (142 + c)) := (sH_out (by omega)).trans sH_sets
      have d7 : sH b u (sH b2 u2 g) (b + 7) = some (aI 9 fun c => u 0 (142 + c)) := sH_sets
      have hcp : (.inl (0, 9, .inl (va_cpy (fun i => if i < 9 then iI (u2 0 (142 + i)) else 0) (fun i => if i < 9 then iI (u 0 (142 + i)) else 0) (iI 0).toNatClampNeg (iI 0).toNatClampNeg (iI ((9 : Nat) : Int)).toNatClampNeg)) : zC) = aI 9 fun c => u2 0 (142 + c) := by
        rw [show (iI 0).toNatClampNeg = 0 from by decide +kernel, show (iI ((9 : Nat) : Int)).toNatClampNeg = 9 from by decide +kernel]
        unfold aI
        congr 4
        funext j
        by_cases hj : j < 9
        · rw [pk_cpy_in (by omega) (by omega), show 0 + (j - 0) = j by omega]
        · rw [pk_cpy_out (by omega), if_neg hj, if_neg hj]
      have hst : zup (sH b u (sH b2 u2 g)) (b + 7) (aI 9 fun c => u2 0 (142 + c)) = cH b (cpP b u (wCp u u2) 0) (sH b2 u2 g) := by
        rw [sH_cH, cH_up (by omega)]
        refine cH_congr fun i hi => ?_
        by_cases z : i = 7
        · subst z
          rw [cpP_y (Or.inl rfl)]
          rfl
        · rw [cpP_n (by unfold cpM; omega)]
          exact if_neg z
      have hsz := jl_size (h := sH b u (sH b2 u2 g)) (L := b2 + 3) ((sH_out (by omega)).trans sH_ops)
      refine z_iload_n K dX2_init_2_64 rfl rfl ?_
      refine z_aload_n K dX2_init_2_65 rfl rfl rfl ?_
      refine z_get K fd_X2_18_2 ((src _ _)) rfl dX2_init_2_66 ?_
      refine z_callV K (hsz) cV_X2_55_J2 (((sH_out (by omega)).trans sH_ops)) rfl rfl rfl (by omega) (by omega) (by omega) (Nat.le_of_ble_eq_true rfl) dX2_init_2_69 zrX (zrK ?_)
      refine j_icmp_ge (tgt := 114) K dX2_init_2_72 rfl (by omega) (by omega) (fun c_72 => ?_) (fun c_72 => ?_)
      · refine z_aload_n K dX2_init_2_114 rfl rfl rfl ?_
        refine z_get K fd_X2_21_2 ((src _ _)) rfl dX2_init_2_115 ?_
        refine j_iconst K dX2_init_2_118 ?_
        refine z_aload_n K dX2_init_2_119 rfl rfl rfl ?_
        refine z_get K fd_X2_21_2 (sH_shop) rfl dX2_init_2_120 ?_
        refine j_iconst K dX2_init_2_123 ?_
        refine z_aload_n K dX2_init_2_124 rfl rfl rfl ?_
        refine z_get K fd_X2_21_2 (sH_shop) rfl dX2_init_2_125 ?_
        refine z_alen K (d7) rfl dX2_init_2_128 ?_
        refine z_copyi K (N0 := 9) (N1 := 9) s7 d7 (by omega) q649 (by decide +kernel) (by decide +kernel) (by decide +kernel) (by decide +kernel) (by decide +kernel) (by omega) (Nat.le_of_ble_eq_true rfl) dX2_init_2_129 ?_
        rw [hcp, hst]
        refine j_iconst K dX2_init_2_132 ?_
        refine z_istore_n K dX2_init_2_133 rfl (by decide) rfl ?_
        exact zW.widen (by omega) (by omega) (go _ ⟨rfl, rfl, rfl, trivial⟩)
      · exact absurd c_72 (by omega)
    | succ r ih =>
      intro k hk u hu hW env he
      refine zW.cut he ?_
      obtain ⟨a1, a2, a3, a4, a5, a6⟩ := hA.2.1.2 k (by omega) (by omega)
      obtain ⟨p1, p2, p3, p4⟩ := hu.pre hA hM (by omega) (by omega)
      obtain ⟨h1, h2, h3, h4, -, -, -⟩ := id hu
      have hl := (hA.1.2 _ a1.1 a1.2).2.2.2
      have hxo := (h4 (sMc (u2 0) k) a2.1 a2.2).1
      obtain ⟨j, hj⟩ : ∃ j : Nat, sJb (u2 0) k = j := ⟨(sJb (u2 0) k).toNat, by omega⟩
      obtain ⟨m, hm⟩ : ∃ m : Nat, sMc (u2 0) k = m := ⟨(sMc (u2 0) k).toNat, by omega⟩
      have hs := hu.step hA hM (by omega) (by omega)
      rw [hj] at p1
      rw [hm] at p3 hxo
      rw [hj, hm] at hs
      have eL : u 0 (17 + j) = ((sIx (u2 0) k).toNat : Nat) := by rw [show u 0 (17 + j) = sLen (u 0) j from congrArg (u 0) (by omega), p1]; omega
      have eN : u 0 (179 + m) = ((sOn (u 0) m).toNat : Nat) := by rw [show u 0 (179 + m) = sOn (u 0) m from congrArg (u 0) (by omega)]; omega
      have hop : nop (u 0) j m := ⟨by omega, by omega, by omega, by omega, by omega⟩
      have had := x2_addOperation (b := b) (u := u) (g := sH b2 u2 g) (j := j) (m := m) (k := k) (n := (sOn (u 0) m).toNat) (L := (sIx (u2 0) k).toNat) (d := sDu (u2 0) k) (f := sFa (u2 0) k) (by omega) hAm2 h3.1 h2 eL eN (by omega) (by omega) (by omega) (by omega) (by omega) (fun p hp => by
        have hr := (h4 m (by omega) (by omega)).2.1 p (by omega) (by omega)
        have h20' := h3.2.1.1
        rw [show u 0 (183 + 5 * m + p) = sOr (u 0) m p from congrArg (u 0) (by omega)]
        omega)
      rw [← hj, ← hm] at had
      have nx := ih (k + 1) (by omega) (wNO u j m (sDu (u2 0) k) (sFa (u2 0) k)) (by rw [wNO_0]; exact hs) (hW.no hop)
      clear ih lm
      have hsz := jl_size (h := sH b u (sH b2 u2 g)) (L := b2 + 3) ((sH_out (by omega)).trans sH_ops)
      have hgt : zG2 (b2 + 3) k (sH b u (sH b2 u2 g)) (b2 + 52 + ((k : Nat) : Int).toNat) := by rw [cm]; exact gt_ops (by omega) (by omega)
      have hob : sH b u (sH b2 u2 g) (b2 + 52 + ((k : Nat) : Int).toNat) = _ := (sH_out (by omega)).trans (sH_op (b := b2) (u := u2) (g := g) (k := k) (by omega) (by omega))
      refine z_iload_n K dX2_init_2_64 rfl rfl ?_
      refine z_aload_n K dX2_init_2_65 rfl rfl rfl ?_
      refine z_get K fd_X2_18_2 ((src _ _)) rfl dX2_init_2_66 ?_
      refine z_callV K (hsz) cV_X2_55_J2 (((sH_out (by omega)).trans sH_ops)) rfl rfl rfl (by omega) (by omega) (by omega) (Nat.le_of_ble_eq_true rfl) dX2_init_2_69 zrX (zrK ?_)
      refine j_icmp_ge (tgt := 114) K dX2_init_2_72 rfl (by omega) (by omega) (fun c_72 => ?_) (fun c_72 => ?_)
      · exact absurd c_72 (by omega)
      · refine z_aload_n K dX2_init_2_75 rfl rfl rfl ?_
        refine z_get K fd_X2_18_2 ((src _ _)) rfl dX2_init_2_76 ?_
        refine z_iload_n K dX2_init_2_79 rfl rfl ?_
        refine z_callV K (hgt) cV_X2_59_J2 (((sH_out (by omega)).trans sH_ops)) rfl rfl rfl (by omega) (by omega) (by omega) (Nat.le_of_ble_eq_true rfl) dX2_init_2_80 zrX (zrK ?_)
        refine z_castS K (hob) rfl q408 dX2_init_2_83 ?_
        refine z_astore_n K dX2_init_2_86 rfl rfl (by decide) rfl ?_
        refine z_aload_n K dX2_init_2_87 rfl rfl rfl ?_
        refine z_aload_n K dX2_init_2_88 rfl rfl rfl ?_
        refine z_get K fd_X2_79_5 (hob) rfl dX2_init_2_89 ?_
        refine z_aload_n K dX2_init_2_92 rfl rfl rfl ?_
        refine z_get K fd_X2_82_5 (hob) rfl dX2_init_2_93 ?_
        refine z_aload_n K dX2_init_2_96 rfl rfl rfl ?_
        refine z_get K fd_X2_85_5 (hob) rfl dX2_init_2_97 ?_
        refine z_aload_n K dX2_init_2_100 rfl rfl rfl ?_
        refine z_get K fd_X2_88_5 (hob) rfl dX2_init_2_101 ?_
        refine z_callV K (had) cV_X2_91_X2 (sH_shop) rfl rfl rfl (by omega) (by omega) (by omega) (Nat.le_of_ble_eq_true rfl) dX2_init_2_104 zrX (zrK ?_)
        refine z_pop K dX2_init_2_107 rfl ?_
        refine j_iinc K dX2_init_2_108 rfl (by decide) rfl ?_
        refine z_goto (tgt := 64) K dX2_init_2_111 rfl ?_
        exact zW.widen (by omega) (by omega) (nx _ ⟨rfl, rfl, rfl, trivial⟩)
  -- the jobs
  have lj : ∀ (r j : Nat), (j : Int) + r = u2 0 0 → ∀ u : tW, cpJ (u2 0) (u 0) j → cpW u → ∀ env, zsub env [(0, .ref b), (1, .ref b2), (2, .int (iI j))] → zW X Q (sH b u (sH b2 u2 g)) (29 + 4 * j) (317 + 30 * j) 6 env [] := by
    intro r
    induction r with
    | zero =>
      intro j hj u hu hW env he
      refine zW.cut he ?_
      have hj' : u2 0 0 = j := by omega
      have go := lo (u2 0 1).toNat 0 (by omega) u (cpJ.ops hA (by rw [hj']; exact hu)) hW
      have go : ∀ env, zsub env [(0, .ref b), (1, .ref b2), (2, .int (iI 0))] → zW X Q (sH b u (sH b2 u2 g)) 49 467 64 env [] := go
      clear lm lo
      have hsz := jl_size (h := sH b u (sH b2 u2 g)) (L := b2 + 1) ((sH_out (by omega)).trans sH_jobs)
      refine z_iload_n K dX2_init_2_6 rfl rfl ?_
      refine z_aload_n K dX2_init_2_7 rfl rfl rfl ?_
      refine z_get K fd_X2_12_2 ((src _ _)) rfl dX2_init_2_8 ?_
      refine z_callV K (hsz) cV_X2_55_J2 (((sH_out (by omega)).trans sH_jobs)) rfl rfl rfl (by omega) (by omega) (by omega) (Nat.le_of_ble_eq_true rfl) dX2_init_2_11 zrX (zrK ?_)
      refine j_icmp_ge (tgt := 62) K dX2_init_2_14 rfl (by omega) (by omega) (fun c_14 => ?_) (fun c_14 => ?_)
      · refine j_iconst K dX2_init_2_62 ?_
        refine z_istore_n K dX2_init_2_63 rfl (by decide) rfl ?_
        exact zW.widen (by omega) (by omega) (go _ ⟨rfl, rfl, rfl, trivial⟩)
      · exact absurd c_14 (by omega)
    | succ r ih =>
      intro j hj u hu hW env he
      refine zW.cut he ?_
      have hs := hu.step hA (by omega) (by omega)
      obtain ⟨h1, h2, h3, h4, -⟩ := id hu
      have nx := ih (j + 1) (by omega) (wNJ u j (sRel (u2 0) j) (sDue (u2 0) j) (sWt (u2 0) j)) (by rw [wNJ_0]; exact hs) (hW.nj h1 (by omega))
      clear ih lm lo
      have hsz := jl_size (h := sH b u (sH b2 u2 g)) (L := b2 + 1) ((sH_out (by omega)).trans sH_jobs)
      have hgt : zG2 (b2 + 1) j (sH b u (sH b2 u2 g)) (b2 + 32 + ((j : Nat) : Int).toNat) := by rw [cm]; exact gt_jobs (by omega) (by omega)
      -- the new object
      have hH0 : ∀ d : zC, zup (sH b u (sH b2 u2 g)) (b + 32 + j) d = sH b2 u2 (zup (sH b u g) (b + 32 + j) d) := fun d => by rw [cm, sH_upo (by omega)]
      have hrl := x5_release (b := b2) (u := u2) (g := zup (sH b u g) (b + 32 + j) (.inr (4, [.null, .null]))) (j := j) (by omega) (by omega)
      have hdu := x5_due (b := b2) (u := u2) (g := zup (sH b u g) (b + 32 + j) (.inr (4, [.null, .null]))) (j := j) (by omega) (by omega)
      have hwt := x5_weight (b := b2) (u := u2) (g := zup (sH b u g) (b + 32 + j) (.inr (4, [.null, .null]))) (j := j) (by omega) (by omega)
      rw [← hH0] at hrl hdu hwt
      have f32 : sH b u (sH b2 u2 g) (b + 32 + j) = none := by rw [Nat.add_assoc b 32, sH_in _ (by omega), sC_32 (by omega), if_neg (by omega)]
      have f37 : sH b u (sH b2 u2 g) (b + 37 + j) = none := by rw [Nat.add_assoc b 37, sH_in _ (by omega), sC_37 (by omega), if_neg (by omega)]
      have f42 : sH b u (sH b2 u2 g) (b + 42 + j) = none := by rw [Nat.add_assoc b 42, sH_in _ (by omega), sC_42 (by omega), if_neg (by omega)]
      have hn1 : sH b u (sH b2 u2 g) 1 = some (aR 0 0 f1) := (sH_out (by omega)).trans ((sH_out (by omega)).trans hA1)
      have hin := x5_init (h := zup (sH b u (sH b2 u2 g)) (b + 32 + j) (.inr (4, [.null, .null]))) (o := b + 32 + j) (r := b + 37 + j) (l := b + 42 + j) (v1 := sRel (u2 0) j) (v2 := sDue (u2 0) j) (v3 := sWt (u2 0) j) (zup_at _ _ _) ((zup_ne (by omega)).trans f37) ((zup_ne (by omega)).trans f42) ((zup_ne (by omega)).trans hn1) (by omega) (by omega) (by omega) (by omega)
      rw [zup_ow (by omega) (by omega)] at hin
      have had := jobsAdd (b := b) (H := zup (zup (zup (sH b u (sH b2 u2 g)) (b + 37 + j) (aI 3 (jV (sRel (u2 0) j) (sDue (u2 0) j) (sWt (u2 0) j)))) (b + 42 + j) (oL 0 1 0)) (b + 32 + j) (.inr (4, [.ref (b + 37 + j), .ref (b + 42 + j)]))) (k := j) (c := u 6 0) (f1 := f1) (by omega) ((zup_ne (by omega)).trans ((zup_ne (by omega)).trans ((zup_ne (by omega)).trans (by rw [sH_in _ (by omega), sC_1, h1]; by_cases z : j = 0; rw [if_pos (by omega), if_pos z]; rw [if_neg (by omega), if_neg z])))) (fun z => (zup_ne (by omega)).trans ((zup_ne (by omega)).trans ((zup_ne (by omega)).trans (by rw [sH_in _ (by omega), sC_2, h1, if_neg (by omega), Int.toNat_natCast])))) (fun z => (zup_ne (by omega)).trans ((zup_ne (by omega)).trans ((zup_ne (by omega)).trans (by rw [sH_in _ (by omega), sC_2, h1, if_pos (by omega)])))) ((zup_ne (by omega)).trans ((zup_ne (by omega)).trans ((zup_ne (by omega)).trans hn1))) (zOb_jb (zup_at _ _ _)) (by omega)
      rw [sH_newjob (g := sH b2 u2 g) h1 (by omega)] at had
      have jl : zup (zup (zup (sH b u (sH b2 u2 g)) (b + 37 + j) (aI 3 (jV (sRel (u2 0) j) (sDue (u2 0) j) (sWt (u2 0) j)))) (b + 42 + j) (oL 0 1 0)) (b + 32 + j) (.inr (4, [.ref (b + 37 + j), .ref (b + 42 + j)])) (b + 1) = _ := (zup_ne (by omega)).trans ((zup_ne (by omega)).trans ((zup_ne (by omega)).trans sH_jobs))
      have jo : sH b u (sH b2 u2 g) (b2 + 32 + ((j : Nat) : Int).toNat) = _ := (sH_out (by omega)).trans (sH_job (b := b2) (u := u2) (g := g) (j := j) (by omega) (by omega))
      (try dsimp only [sRel, sDue, sWt, sLen, sSeq, sJb, sMc, sDu, sFa, sIx, sSu, sBn, sBf, sBl, sOn, sOr] at *)
      refine z_iload_n K dX2_init_2_6 rfl rfl ?_
      refine z_aload_n K dX2_init_2_7 rfl rfl rfl ?_
      refine z_get K fd_X2_12_2 ((src _ _)) rfl dX2_init_2_8 ?_
      refine z_callV K (hsz) cV_X2_55_J2 (((sH_out (by omega)).trans sH_jobs)) rfl rfl rfl (by omega) (by omega) (by omega) (Nat.le_of_ble_eq_true rfl) dX2_init_2_11 zrX (zrK ?_)
      refine j_icmp_ge (tgt := 62) K dX2_init_2_14 rfl (by omega) (by omega) (fun c_14 => ?_) (fun c_14 => ?_)
      · exact absurd c_14 (by omega)
      · refine z_aload_n K dX2_init_2_17 rfl rfl rfl ?_
        refine z_get K fd_X2_12_2 ((src _ _)) rfl dX2_init_2_18 ?_
        refine z_iload_n K dX2_init_2_21 rfl rfl ?_
        refine z_callV K (hgt) cV_X2_59_J2 (((sH_out (by omega)).trans sH_jobs)) rfl rfl rfl (by omega) (by omega) (by omega) (Nat.le_of_ble_eq_true rfl) dX2_init_2_22 zrX (zrK ?_)
        refine z_castS K ((by first | exact jo | exact (zup_ne (by omega)).trans jo)) rfl q417 dX2_init_2_25 ?_
        refine z_astore_n K dX2_init_2_28 rfl rfl (by decide) rfl ?_
        refine z_aload_n K dX2_init_2_29 rfl rfl rfl ?_
        refine z_get K fd_X2_12_2 (sH_shop) rfl dX2_init_2_30 ?_
        refine z_new K (b + 32 + j) nw_X2_63 f32 (by omega) (by omega) (by omega) dX2_init_2_33 ?_
        refine z_dup K dX2_init_2_36 rfl ?_
        refine z_aload_n K dX2_init_2_37 rfl rfl rfl ?_
        refine z_callV K (hrl) cV_X2_65_X5 ((by first | exact jo | exact (zup_ne (by omega)).trans jo)) rfl rfl rfl (by omega) (by omega) (by omega) (Nat.le_of_ble_eq_true rfl) dX2_init_2_38 zrX (zrK ?_)
        refine z_aload_n K dX2_init_2_41 rfl rfl rfl ?_
        refine z_callV K (hdu) cV_X2_68_X5 ((by first | exact jo | exact (zup_ne (by omega)).trans jo)) rfl rfl rfl (by omega) (by omega) (by omega) (Nat.le_of_ble_eq_true rfl) dX2_init_2_42 zrX (zrK ?_)
        refine z_aload_n K dX2_init_2_45 rfl rfl rfl ?_
        refine z_callV K (hwt) cV_X2_71_X5 ((by first | exact jo | exact (zup_ne (by omega)).trans jo)) rfl rfl rfl (by omega) (by omega) (by omega) (Nat.le_of_ble_eq_true rfl) dX2_init_2_46 zrX (zrK ?_)
        refine z_cI (fs := []) K (hin) cI_X2_74 rfl rfl (by omega) (by omega) (by omega) (Nat.le_of_ble_eq_true rfl) dX2_init_2_49 zvX (zvK ?_)
        refine z_callV K (had) cV_X2_47_J2 (jl) rfl rfl rfl (by omega) (by omega) (by omega) (Nat.le_of_ble_eq_true rfl) dX2_init_2_52 zrX (zrK ?_)
        refine z_pop K dX2_init_2_55 rfl ?_
        refine j_iinc K dX2_init_2_56 rfl (by decide) rfl ?_
        refine z_goto (tgt := 6) K dX2_init_2_59 rfl ?_
        exact zW.widen (by omega) (by omega) (nx _ ⟨rfl, rfl, rfl, trivial⟩)
  have hni := x2_init (b := b) (g := sH b2 u2 g) (by omega) hAm2 (fun i hi => (sH_out (by omega)).trans (hTp _ (by omega)))
  have go := lj (u2 0 0).toNat 0 (by omega) uNew (uNew_cp (s := u2 0)).1 (uNew_cp (s := u2 0)).2
  have go : ∀ env, zsub env [(0, .ref b), (1, .ref b2), (2, .int (iI 0))] → zW X Q (sH b uNew (sH b2 u2 g)) 29 317 6 env [] := go
  clear lj lo lm
  refine z_aload_n K dX2_init_2_0 rfl rfl rfl ?_
  refine z_cI (fs := []) K (hni) cI_X2_54 rfl rfl (by omega) (by omega) (by omega) (Nat.le_of_ble_eq_true rfl) dX2_init_2_1 zvX (zvK ?_)
  refine j_iconst K dX2_init_2_4 ?_
  refine z_istore_n K dX2_init_2_5 rfl (by decide) rfl ?_
  exact zW.widen (by omega) (by omega) (go _ ⟨rfl, rfl, rfl, trivial⟩)
end XSc

