/-! ===== the component's operations: append ===== -/
/-- what an operation without an answer ends with, held against the reference's R -/
def cQv (h : zH) (R : tW → Prop) (cd : Nat → Int) : zO → zH → Prop := fun z h' => (∀ m, m < 1040 → h' m = h m) ∧ ((z = .inl none ∧ ∀ w', R w' → w' 3 0 = 0 ∧ CX h' w') ∨ (∃ (q ci : Nat) (fs : List Value), z = .inr q ∧ h' q = some (.inr (ci, fs)) ∧ cd ci ≠ 0 ∧ ∀ w', R w' → w' 3 0 = cd ci ∧ CX h' w'))
/-- the kinds of cell in a shop -/
def kdc : Option zC → Bool
  | some (.inr (ci, _)) => ci == 2 || ci == 3 || ci == 4 || ci == 5 || ci == 18
  | some (.inl (ty, _)) => ty == 0 || ty == 6
  | none => true
theorem kdc_i {c : Prop} [Decidable c] {x y : Option zC} (h1 : kdc x = true) (h2 : kdc y = true) : kdc (if c then x else y) = true := by
  by_cases q : c
  · rw [if_pos q]; exact h1
  · rw [if_neg q]; exact h2
theorem sC_kd {b : Nat} {u : tW} {i : Nat} : kdc (sC b u i) = true := by
  unfold sC
  repeat' first | refine kdc_i ?_ ?_ | rfl
/-- no part of a text -/
def nSB : Option zC → Prop
  | some (.inr (ci, _)) => ci ≠ 19
  | some (.inl (ty, _)) => ty ≠ 1
  | none => True
theorem kdc.n : ∀ {o : Option zC}, kdc o = true → nSB o
  | some (.inr (ci, _)), h => fun e => by subst e; exact Bool.false_ne_true h
  | some (.inl (ty, _)), h => fun e => by subst e; exact Bool.false_ne_true h
  | none, _ => trivial
/-- below N the cells away from the shop at b that are no part of a text stay -/
def kpS (b N : Nat) (g g' : zH) : Prop := ∀ m, m < N → aw b m → nSB (g m) → g' m = g m
section XP6
variable {b N N' : Nat} {u w w' : tW} {g g' : zH}
theorem SvG.mvS {sv : Value} (h : SvG b N g sv w) (hT : zTop g N) (k : kpS b N g g') (hN : N ≤ N') (h2 : w' 2 = w 2) (h1 : w' 1 = w 1) : SvG b N' g' sv w' := by
  unfold SvG
  rw [h1, h2]
  refine h.imp id fun ⟨e, b2, u2, a1, a2, a3, a4, a5, a6, a7, a8, a9⟩ => ⟨e, b2, u2, a1, a2, by omega, a4, fun i hi => ?_, a6, a7, fun m i m0 m1 i0 i1 => ?_, a9⟩
  · rw [k (b2 + i) (by omega) ⟨by omega, by omega⟩ (by rw [a5 i hi]; exact kdc.n sC_kd)]; exact a5 i hi
  · obtain ⟨c1, c2, c3, c4⟩ := a8 m i m0 m1 i0 i1
    exact ⟨c1, c2, c3, by rw [k _ (hT.lt c4) (a9 m i m0 m1 i0 i1) (by rw [c4]; exact (by decide : (6 : Nat) ≠ 19))]; exact c4⟩
theorem fO.mvS {q p : Nat} {c : Int} (h : fO b g q p c) (hT : zTop g N) (k : kpS b N g g') : fO b g' q p c := by
  obtain ⟨a1, ci, j, l, a2, a3, a4⟩ := h
  have n9 : nSB (g q) := by rw [a3]; show ci ≠ 19; unfold fcl at a2; omega
  exact ⟨a1, ci, j, l, a2, by rw [k q (hT.lt a3) a1 n9]; exact a3, a4⟩
theorem fC.mvS {c : Nat → Int} (hT : zTop g N) (k : kpS b N g g') : ∀ (n i q : Nat), fC b g c n i q → fC b g' c n i q
  | 0, i, q, h => fO.mvS h hT k
  | n + 1, i, q, ⟨p, h1, h2, h3⟩ => ⟨p, h1, h2.mvS hT k, fC.mvS hT k n (i + 1) p h3⟩
theorem FlG.mvS {fl : Value} (h : FlG b g fl w) (hT : zTop g N) (k : kpS b N g g') (h6 : w' 6 = w 6) (h7 : w' 7 = w 7) : FlG b g' fl w' := by
  unfold FlG
  rw [h6, h7]
  exact h.imp id fun ⟨n, q, a1, a2, a3⟩ => ⟨n, q, a1, a2, fC.mvS hT k n 0 q a3⟩
theorem ClG.mvS {cl : Value} (h : ClG b g cl w) (hT : zTop g N) (k : kpS b N g g') (h8 : w' 8 = w 8) (h9 : w' 9 = w 9) : ClG b g' cl w' := by
  unfold ClG
  rw [h8, h9]
  exact h.imp id fun ⟨e, c, a1, a2, a3⟩ => ⟨e, c, a1, a2, by rw [k c (hT.lt a3) a2 (by rw [a3]; exact (by decide : (0 : Nat) ≠ 1))]; exact a3⟩
def apQ (w : tW) (c : Int) (w' : tW) : Prop := (w 5 0 = 80 ∧ w' = tset w 3 0 1) ∨ (w 5 0 < 80 ∧ w' = tset (tset (tset w 3 0 0) 4 (w 5 0).toNat c) 5 0 (w 5 0 + 1))
theorem cQv.ex {ci : Nat} {fs : List Value} {h0 : zH} {R : tW → Prop} {cd : Nat → Int} (hC : CG b N u g w) (hf : ∀ m, m < 1040 → h0 m = g m) (hcd : cd ci ≠ 0) (hR : ∀ w', R w' → w' 3 0 = cd ci ∧ sw w w' ∧ w' 0 = w 0) : cQv h0 R cd (.inr N) (zup (sH b u g) N (.inr (ci, fs))) := by
  have n8 := hC.n8
  refine ⟨fun m hm => (zup_ne (by omega)).trans ((hC.lo m hm).trans (hf m hm).symm), Or.inr ⟨N, ci, fs, rfl, zup_at _ _ _, hcd, fun w' r => ?_⟩⟩
  obtain ⟨a1, a2, a3⟩ := hR w' r
  exact ⟨a1, hC.up a2 a3⟩
theorem x1_append {c : Int} (hC : CG b N u g w) (hl : 0 ≤ w 5 0 ∧ w 5 0 ≤ 80) (c0 : 0 ≤ c) (c1 : c < 65536) : zMet yX1_append (ws_ yX1_append cX1_append 2 none) 9 [.ref 1040, .int (iI c)] (sH b u g) (cQv (sH b u g) (apQ w c) (cdA 23 99 99)) 3 2510 := by
  have n8 := hC.n8
  obtain ⟨a1, a2, a3, a4, a5, a6, a7, a8, a9, a10, sv, T, fl, cl, e1, e2, ⟨V, K9, cc, f, e3, e4, e5⟩, e6, e7⟩ := id hC
  have hT : sH b u g T = some (oSB V cc ((w 5 0).toNat : Nat)) := (sH_out e4.2).trans e3.1
  have hV : sH b u g V = some (aB K9 f) := (sH_out e5.2).trans e3.2.1
  have hS : SBp (sH b u g) T V K9 cc (w 5 0).toNat f (w 4) := ⟨hT, hV, e3.2.2⟩
  have hx : sH b u g 1040 = some (oX b sv T fl cl (w 10 0)) := (sH_out (by omega)).trans e1
  have kc := fun v hv => x1_checkState (h := sH b u g) (N := N) (v := v) hC.am hv hC.fr n8.2.2.2
  have kl := sb_length hT
  have hex : w 5 0 = 80 → cQv (sH b u g) (apQ w c) (cdA 23 99 99) (.inr N) (zup (sH b u g) N (oEx 23 (sH b u g) N)) := fun ck => cQv.ex hC hC.lo (by decide) (fun w' r => by
    rcases r with ⟨-, rfl⟩ | ⟨z, -⟩
    · exact ⟨set3_3, sw.set, set3_0⟩
    · omega)
  have fin : w 5 0 < 80 → ∀ (h1 : zH) (V' N' : Nat) (c' : Int) (f' : Nat → Int), SBp h1 T V' N' c' ((w 5 0).toNat + 1) f' (sup (w 4) (w 5 0).toNat c) → (V' = V ∨ V' = N ∨ V' = N + 1) → (∀ m, m ≠ T → m ≠ V → m ≠ N → m ≠ N + 1 → h1 m = sH b u g m) → cQv (sH b u g) (apQ w c) (cdA 23 99 99) (.inl none) h1 := by
    intro ck h1 V' N' c' f' hS' hV' hm
    have t8 := e4.1
    have v8 := e5.1
    have tb := e4.2
    have vb := e5.2
    have tN := a4.lt e3.1
    have vN := a4.lt e3.2.1
    obtain ⟨g1, hg1⟩ : ∃ g1 : zH, g1 = fun m => if b ≤ m ∧ m < b + 72 then g m else h1 m := ⟨_, rfl⟩
    have gi : ∀ m, b ≤ m ∧ m < b + 72 → g1 m = g m := fun m q => by rw [hg1]; exact if_pos q
    have go : ∀ m, m < b ∨ b + 72 ≤ m → g1 m = h1 m := fun m q => by rw [hg1]; exact if_neg (by omega)
    have eh : h1 = sH b u g1 := by
      funext m
      by_cases q : m < b ∨ b + 72 ≤ m
      · rw [sH_out q, go m q]
      · obtain ⟨i, rfl⟩ : ∃ i, m = b + i := ⟨m - b, by omega⟩
        rw [hm _ (by omega) (by omega) (by omega) (by omega), sH_in i (by omega), sH_in i (by omega)]
    have gk : ∀ m, m ≠ T → m ≠ V → m ≠ N → m ≠ N + 1 → g1 m = g m := fun m q1 q2 q3 q4 => by
      by_cases q : m < b ∨ b + 72 ≤ m
      · rw [go m q, hm m q1 q2 q3 q4, sH_out q]
      · exact gi m (by omega)
    have ks : kpS b N g g1 := fun m q1 q2 q3 => gk m (fun e => by rw [e, e3.1] at q3; exact q3 rfl) (fun e => by rw [e, e3.2.1] at q3; exact q3 rfl) (by omega) (by omega)
    have aV' : aw b V' := by
      rcases hV' with rfl | rfl | rfl
      · exact e5
      · exact ⟨by omega, Or.inr (by omega)⟩
      · exact ⟨by omega, Or.inr (by omega)⟩
    refine ⟨fun m q => hm m (by omega) (by omega) (by omega) (by omega), Or.inl ⟨rfl, fun w' r => ?_⟩⟩
    rcases r with ⟨z, -⟩ | ⟨-, rfl⟩
    · omega
    have ew : ∀ q, q ≠ 3 → q ≠ 4 → q ≠ 5 → tset (tset (tset w 3 0 0) 4 (w 5 0).toNat c) 5 0 (w 5 0 + 1) q = w q := fun q q1 q2 q3 => by rw [tsG q3, tsG q2, tsG q1]
    refine ⟨by rw [tset_f (by decide), tset_f (by decide), tset_s], b, N + 2, u, g1, eh, a1, by omega, a3.ext (N := 1000) (fun m q => gk m (by omega) (by omega) (by omega) (by omega)) (by omega), fun m q => by rw [gk m (by omega) (by omega) (by omega) (by omega)]; exact a4 m (by omega), by rw [ew 0 (by decide) (by decide) (by decide)]; exact a5, a6, fun m i m0 m1 i0 i1 => ?_, a8, a9, a10, sv, T, fl, cl, ?_, e2.mvS a4 ks (by omega) (ew 2 (by decide) (by decide) (by decide)) (ew 1 (by decide) (by decide) (by decide)), ⟨V', N', c', f', ?_, e4, aV'⟩, e6.mvS a4 ks (ew 6 (by decide) (by decide) (by decide)) (ew 7 (by decide) (by decide) (by decide)), e7.mvS a4 ks (ew 8 (by decide) (by decide) (by decide)) (ew 9 (by decide) (by decide) (by decide))⟩
    · obtain ⟨c1, c2, c3, c4⟩ := a7 m i m0 m1 i0 i1
      refine ⟨c1, c2, c3, ?_⟩
      have := a4.lt c4
      rw [gk _ (fun e => by rw [e, e3.1] at c4; cases c4) (fun e => by rw [e, e3.2.1] at c4; cases c4) (by omega) (by omega)]
      exact c4
    · rw [gk 1040 (by omega) (by omega) (by omega) (by omega), e1, ew 10 (by decide) (by decide) (by decide)]
    · have x5 : (tset (tset (tset w 3 0 0) 4 (w 5 0).toNat c) 5 0 (w 5 0 + 1) 5 0).toNat = (w 5 0).toNat + 1 := by rw [tset_s]; omega
      have x4 : tset (tset (tset w 3 0 0) 4 (w 5 0).toNat c) 5 0 (w 5 0 + 1) 4 = sup (w 4) (w 5 0).toNat c := by rw [tsG (by decide), tset_row, tsG (by decide)]
      rw [x5, x4]
      exact ⟨by rw [go T tb]; exact hS'.1, by rw [go V' aV'.2]; exact hS'.2.1, hS'.2.2⟩
  refine zMet.of (by decide) (Nat.le_of_ble_eq_true rfl) fun X K => ?_
  have bad : w 5 0 = 80 → ∀ env, zsub env [] → zW X (cQv (sH b u g) (apQ w c) (cdA 23 99 99)) (sH b u g) 0 0 16 env [] := by
    intro h1 env he
    refine zW.cut he ?_
    have kc0 := kc 0 (by omega)
    refine j_iconst K dX1_append_16 ?_
    refine z_callS K (kc0) cS_X1_83 rfl rfl (by omega) (by omega) (by omega) (Nat.le_of_ble_eq_true rfl) dX1_append_17 (ckX fun ck_17 => z_out K rfl (by omega) (by omega) (hex h1)) (ckK fun ck_17 => ?_)
    exact absurd rfl ck_17
  have kc1 := kc 1 (by omega)
  have ka : w 5 0 < 80 → _ := fun ck => sb_append (a := N) (ch := c) hC.am hS (by have := e4.1; omega) (by omega) hC.fr ((sH_out (by omega)).trans (a4 (N + 1) (by omega))) n8.2.2.2 c0 c1
  refine z_aload_n K dX1_append_0 rfl rfl rfl ?_
  refine z_get K fd_X1_23_1 (hx) rfl dX1_append_1 ?_
  refine z_callV K (kl) cV_X1_295_J7 (hT) rfl rfl rfl (by omega) (by omega) (by omega) (Nat.le_of_ble_eq_true rfl) dX1_append_4 zrX (zrK ?_)
  refine j_bipush K dX1_append_7 (by decide +kernel) ?_
  refine j_icmp_ge (tgt := 16) K dX1_append_9 rfl (by omega) (by omega) (fun c_9 => ?_) (fun c_9 => ?_)
  · exact bad (by omega) _ trivial
  · refine j_iconst K dX1_append_12 ?_
    refine z_goto (tgt := 17) K dX1_append_13 rfl ?_
    refine z_callS K (kc1) cS_X1_83 rfl rfl (by omega) (by omega) (by omega) (Nat.le_of_ble_eq_true rfl) dX1_append_17 (ckX fun ck_17 => absurd (by decide) ck_17) (ckK fun ck_17 => ?_)
    refine z_aload_n K dX1_append_20 rfl rfl rfl ?_
    refine z_get K fd_X1_23_1 (hx) rfl dX1_append_21 ?_
    refine z_iload_n K dX1_append_24 rfl rfl ?_
    refine z_callV K (ka (by omega)) cV_X1_298_J7 (hT) rfl rfl rfl (by omega) (by omega) (by omega) (Nat.le_of_ble_eq_true rfl) dX1_append_25 (fun q h1 hq => by obtain ⟨z, -⟩ := hq; cases z) ?_
    rintro v h1 ⟨z, V', N', c', f', hS', hV', hm⟩
    cases z
    refine z_pop K dX1_append_28 rfl ?_
    exact z_vret K (by omega) (by omega) (fin (by omega) h1 V' N' c' f' hS' hV' hm) dX1_append_29
end XP6

