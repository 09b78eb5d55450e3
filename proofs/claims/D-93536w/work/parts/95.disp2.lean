/-! ===== the component: the dispatcher is made, and runs ===== -/
section XDr
variable {b D : Nat} {u : tW} {g : zH} {rl ea : Int}
theorem x10_init (hb : 1000 ≤ b) (hD : b + 72 ≤ D) (hTp : zTop g D) : zMet yX10_init (ws_ yX10_init cX10_init 4 none) 2 [.ref D, .ref b, .int (iI rl), .int (iI ea)] (zup (sH b u g) D (.inr (9, [.null, .int 0, .int 0, .null, .null]))) (zVd (sH b u (dp D b rl ea (fun _ => 0) (fun _ => 0) g))) 2 25 := by
  refine zMet.of (by decide) (Nat.le_of_ble_eq_true rfl) fun X K => ?_
  rw [sH_upo (by omega)]
  generalize hG1 : zup (zup g (D + 1) (aI 20 fun _ => 0)) D (.inr (9, [.null, .int 0, .int 0, .ref (D + 1), .null])) = G1
  have hs1 : zup (zup (sH b u (zup g D (.inr (9, [.null, .int 0, .int 0, .null, .null])))) (D + 1) (aI 20 fun _ => 0)) D (.inr (9, [.null, .int 0, .int 0, .ref (D + 1), .null])) = sH b u G1 := by
    rw [sH_upo (by omega), sH_upo (by omega), ← hG1]
    congr 1
    funext m
    by_cases e : m = D
    · subst e; rw [zup_at, zup_at]
    · rw [zup_ne e, zup_ne e]
      by_cases e2 : m = D + 1
      · subst e2; rw [zup_at, zup_at]
      · rw [zup_ne e2, zup_ne e2, zup_ne e]
  have g1 : G1 D = some (.inr (9, [.null, .int 0, .int 0, .ref (D + 1), .null])) := by rw [← hG1]; exact zup_at _ _ _
  have hs2 : ∀ l : List Value, zup (zup (sH b u G1) (D + 2) (aI 5 fun _ => 0)) D (.inr (9, l)) = sH b u (zup (zup (zup g (D + 1) (aI 20 fun _ => 0)) (D + 2) (aI 5 fun _ => 0)) D (.inr (9, l))) := fun l => by
    rw [sH_upo (by omega), sH_upo (by omega), ← hG1]
    congr 1
    funext m
    by_cases e : m = D
    · subst e; rw [zup_at, zup_at]
    · rw [zup_ne e, zup_ne e]
      by_cases e2 : m = D + 2
      · subst e2; rw [zup_at, zup_at]
      · rw [zup_ne e2, zup_ne e2, zup_ne e]
  have hs3 : ∀ l l' : List Value, zup (sH b u (zup (zup (zup g (D + 1) (aI 20 fun _ => 0)) (D + 2) (aI 5 fun _ => 0)) D (.inr (9, l)))) D (.inr (9, l')) = sH b u (zup (zup (zup g (D + 1) (aI 20 fun _ => 0)) (D + 2) (aI 5 fun _ => 0)) D (.inr (9, l'))) := fun l l' => by rw [sH_upo (by omega), zup_zup]
  refine z_aload_n K dX10_init_0 rfl rfl rfl ?_
  refine z_objInit K q1137 (by omega) (Nat.le_of_ble_eq_true rfl) dX10_init_1 ?_
  refine z_aload_n K dX10_init_4 rfl rfl rfl ?_
  refine j_bipush K dX10_init_5 (by decide +kernel) ?_
  refine z_newi K (D + 1) (by omega) (by omega) ((sH_out (by omega)).trans ((zup_ne (by omega)).trans (hTp _ (by omega)))) (by omega) (by omega) (by omega) dX10_init_7 ?_
  rw [show (20 : Int).toNat = 20 from rfl, aI_zero]
  refine z_putE K fd_X10_9_9 (by first | exact ⟨_, rfl, Or.inl rfl⟩ | exact ⟨_, rfl, Or.inr ⟨rfl, rfl, rfl⟩⟩) ((zup_ne (by omega)).trans ((sH_out (by omega)).trans (zup_at _ _ _))) (by omega) (Nat.le_of_ble_eq_true rfl) (zf_a) dX10_init_9 (hs1) ?_
  refine z_aload_n K dX10_init_12 rfl rfl rfl ?_
  refine j_iconst K dX10_init_13 ?_
  refine z_newi K (D + 2) (by omega) (by omega) ((sH_out (by omega)).trans (by rw [← hG1, zup_ne (by omega), zup_ne (by omega)]; exact hTp _ (by omega))) (by omega) (by omega) (by omega) dX10_init_14 ?_
  rw [show (5 : Int).toNat = 5 from rfl, aI_zero]
  refine z_putE K fd_X10_15_9 (by first | exact ⟨_, rfl, Or.inl rfl⟩ | exact ⟨_, rfl, Or.inr ⟨rfl, rfl, rfl⟩⟩) ((zup_ne (by omega)).trans ((sH_out (by omega)).trans g1)) (by omega) (Nat.le_of_ble_eq_true rfl) (zf_a) dX10_init_16 (hs2 _) ?_
  refine z_aload_n K dX10_init_19 rfl rfl rfl ?_
  refine z_aload_n K dX10_init_20 rfl rfl rfl ?_
  refine z_putE K fd_X10_18_9 (by first | exact ⟨_, rfl, Or.inl rfl⟩ | exact ⟨_, rfl, Or.inr ⟨rfl, rfl, rfl⟩⟩) ((sH_out (by omega)).trans (zup_at _ _ _)) (by omega) (Nat.le_of_ble_eq_true rfl) (zf_r) dX10_init_21 (hs3 _ _) ?_
  refine z_aload_n K dX10_init_24 rfl rfl rfl ?_
  refine z_iload_n K dX10_init_25 rfl rfl ?_
  refine z_putE K fd_X10_22_9 (by first | exact ⟨_, rfl, Or.inl rfl⟩ | exact ⟨_, rfl, Or.inr ⟨rfl, rfl, rfl⟩⟩) ((sH_out (by omega)).trans (zup_at _ _ _)) (by omega) (Nat.le_of_ble_eq_true rfl) (zf_i) dX10_init_26 (hs3 _ _) ?_
  refine z_aload_n K dX10_init_29 rfl rfl rfl ?_
  refine z_iload_n K dX10_init_30 rfl rfl ?_
  refine z_putE K fd_X10_26_9 (by first | exact ⟨_, rfl, Or.inl rfl⟩ | exact ⟨_, rfl, Or.inr ⟨rfl, rfl, rfl⟩⟩) ((sH_out (by omega)).trans (zup_at _ _ _)) (by omega) (Nat.le_of_ble_eq_true rfl) (zf_i) dX10_init_31 (hs3 _ _) ?_
  exact z_vret K (by omega) (by omega) (⟨rfl, rfl⟩) dX10_init_34
theorem x10_run (hb : 1000 ≤ b) (hD : b + 72 ≤ D) (hB : BkOk b u g) (hTp : zTop g D) (hA : WfA (u 0)) (hO : WfO (u 0)) (h3 : T3 u) (hr : 0 ≤ rl ∧ rl ≤ 3) (hea : 0 ≤ ea ∧ ea ≤ 999)
    (hmn : ∀ m p q : Int, 0 ≤ m → m ≤ 3 → 0 ≤ p → p ≤ q → q < sOn (u 0) m → ea ≤ u 3 (sOr (u 0) m p).toNat → ea ≤ u 3 (sOr (u 0) m q).toNat) (hBI : ∀ gx fx, KI (u 0) (u 3) ea 4 0 gx fx → BI (sKp (u 0) (u 3) ea 4) gx fx) :
    zMet yX10_run (ws_ yX10_run cX10_run 2 none) 8 [.ref D] (sH b u (dp D b rl ea (fun _ => 0) (fun _ => 0) g)) (fun z h' => ∃ gx fx v g', z = .inl none ∧ h' = sH b v g' ∧ KI (u 0) (u 3) ea 4 0 gx fx ∧ (∀ f, f ≠ 0 → v f = u f) ∧ v 0 = (bld rl ea 21 (sKp (u 0) (u 3) ea 4) gx fx).1 ∧ zExt D g g' ∧ zTop g' (D + 3)) 0 0 := by
  refine zMet.of (by decide) (Nat.le_of_ble_eq_true rfl) fun X K => ?_
  generalize hQ : (fun (z : zO) (h' : zH) => ∃ gx fx v g', z = .inl none ∧ h' = sH b v g' ∧ KI (u 0) (u 3) ea 4 0 gx fx ∧ (∀ f, f ≠ 0 → v f = u f) ∧ v 0 = (bld rl ea 21 (sKp (u 0) (u 3) ea 4) gx fx).1 ∧ zExt D g g' ∧ zTop g' (D + 3)) = Q
  have hkp := x10_keep (b := b) (D := D) (u := u) (g := g) (rl := rl) (ea := ea) (t := ea) (gx0 := fun _ => 0) (fx0 := fun _ => 0) hb hD hA hO h3 hea (KI.init hA fun _ _ _ => rfl) (fun j _ => by omega) hmn
  have c8 : ∀ gx fx, KI (u 0) (u 3) ea 4 0 gx fx → ∀ env, zsub env [(0, .ref D)] → zW X Q (sH b (wRow u (sKp (u 0) (u 3) ea 4)) (dp D b rl ea fx gx g)) 0 0 8 env [] := by
    intro gx fx hK env he
    refine zW.cut he ?_
    have hI := hBI gx fx hK
    have v0 : wRow u (sKp (u 0) (u 3) ea 4) 0 = sKp (u 0) (u 3) ea 4 := wRow_0
    have vlo : ∀ i, i < 179 → wRow u (sKp (u 0) (u 3) ea 4) 0 i = u 0 i := fun i hi => by rw [v0]; exact if_neg (by omega)
    have hch := x10_choose (b := b) (D := D) (u := wRow u (sKp (u 0) (u 3) ea 4)) (g := g) (rl := rl) (ea := ea) (fx := fx) (gx := gx) hD (SO.row.bk hA.2.2.2.2.2 vlo hB) hTp hr hea (by rw [v0]; exact hI)
    have nx := x10_loop (b := b) (D := D) (u := u) (g := g) (rl := rl) (ea := ea) (Q := Q) K (R := bld rl ea 21 (sKp (u 0) (u 3) ea 4) gx fx) hb hD hB hA hTp hr hea (fun v hv hv0 => by rw [← hQ]; exact ⟨gx, fx, v, _, rfl, rfl, hK, hv, hv0, dp_ext, dp_top hTp⟩) 20 (wRow u (sKp (u 0) (u 3) ea 4)) gx fx (fun f hf => wRow_f hf) vlo (by rw [v0]; exact hI) (by rw [v0]; have := hI.rr; omega) (by rw [v0])
    clear hQ
    refine z_aload_n K dX10_run_8 rfl rfl rfl ?_
    refine z_callV K (hch) cV_X10_119_X10 (sdp_0 hD) rfl rfl rfl (by omega) (by omega) (by omega) (Nat.le_of_ble_eq_true rfl) dX10_run_9 zrX (zrK ?_)
    refine z_astore_n K dX10_run_12 rfl opV_r (by decide) rfl ?_
    exact nx _ ⟨rfl, rfl, trivial⟩
  clear hQ
  refine z_aload_n K dX10_run_0 rfl rfl rfl ?_
  refine z_aload_n K dX10_run_1 rfl rfl rfl ?_
  refine z_get K fd_X10_26_9 (sdp_0 hD) rfl dX10_run_2 ?_
  refine z_callV K (hkp) cV_X10_115_X10 (sdp_0 hD) rfl rfl rfl (by omega) (by omega) (by omega) (Nat.le_of_ble_eq_true rfl) dX10_run_5 (fun _ _ ⟨_, _, e, _⟩ => nomatch e) ?_
  rintro _ _ ⟨gx, fx, ez, rfl, hK⟩
  cases ez
  exact c8 gx fx hK _ ⟨rfl, trivial⟩
end XDr

