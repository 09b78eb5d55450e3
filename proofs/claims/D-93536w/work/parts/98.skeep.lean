/-! ===== the component: the search keeps the best orders ===== -/
section XSk
variable {S b L N : Nat} {v9 : Value} {u : tW} {g : zH} {x : Nat → Int}
theorem x11_keep (hb : 1000 ≤ b) (hS : b + 72 ≤ S) (hSN : S < N) (hAm : Am g) (hTp : zTop g N) (hG : g S = some (.inr (10, seG b L v9 x))) :
    zMet yX11_keep (ws_ yX11_keep cX11_keep 1 none) 9 [.ref S] (sH b u g) (fun z h' => ∃ g', z = .inl none ∧ h' = sH b u (zup (lH N 4 4 (fun i => N + 4 + 2 * i) g') S (.inr (10, seF b L N (sup x 1 (u 5 0))))) ∧ fourO g' (fun i => N + 4 + 2 * i) (fun i => N + 5 + 2 * i) (u 0) (fun m q => u 0 (183 + 5 * m + q)) ∧ (∀ m, m < N → m ≠ S → g' m = g m) ∧ zTop g' (N + 12)) 13 120 := by
  refine zMet.of (by decide) (Nat.le_of_ble_eq_true rfl) fun X K => ?_
  have hs1 : zup (sH b u g) S (.inr (10, (seG b L v9 x).set 4 (.int (iI (u 5 0))))) = sH b u (zup g S (.inr (10, seG b L v9 (sup x 1 (u 5 0))))) := by
    rw [sH_upo (by omega)]
    rfl
  have ext1 : ∀ m, m ≠ S → zup g S (.inr (10, seG b L v9 (sup x 1 (u 5 0)))) m = g m := fun m hm => zup_ne hm
  have hAm1 : Am (zup g S (.inr (10, seG b L v9 (sup x 1 (u 5 0))))) := hAm.ext (N := S) (fun m hm => ext1 m (by omega)) (by omega)
  have hcp := x2_copyOrders (b := b) (u := u) (g := zup g S (.inr (10, seG b L v9 (sup x 1 (u 5 0))))) (N := N) hb (by omega) hAm1 (fun m hm => (ext1 m (by omega)).trans (hTp m hm))
  refine z_aload_n K dX11_keep_0 rfl rfl rfl ?_
  refine z_aload_n K dX11_keep_1 rfl rfl rfl ?_
  refine z_get K fd_X11_18_10 ((sH_out (by omega)).trans hG) rfl dX11_keep_2 ?_
  refine z_get K fd_X11_29_2 (sH_shop) rfl dX11_keep_5 ?_
  refine z_putE K fd_X11_34_10 ⟨_, rfl, Or.inl rfl⟩ ((sH_out (by omega)).trans hG) (by omega) (Nat.le_of_ble_eq_true rfl) (zf_i) dX11_keep_8 (hs1) ?_
  refine z_aload_n K dX11_keep_11 rfl rfl rfl ?_
  refine z_aload_n K dX11_keep_12 rfl rfl rfl ?_
  refine z_get K fd_X11_18_10 ((sH_out (by omega)).trans (zup_at _ _ _)) rfl dX11_keep_13 ?_
  refine z_callV K (hcp) cV_X11_37_X2 (sH_shop) rfl rfl rfl (by omega) (by omega) (by omega) (Nat.le_of_ble_eq_true rfl) dX11_keep_16 (fun _ _ ⟨_, e, _⟩ => nomatch e) ?_
  rintro _ _ ⟨g', ez, rfl, h4, hx, ht⟩
  cases ez
  refine z_putE K fd_X11_41_10 ⟨_, rfl, Or.inl rfl⟩ ((sH_out (by omega)).trans ((lH_o (by omega)).trans ((hx S (by omega)).trans (zup_at _ _ _)))) (by omega) (Nat.le_of_ble_eq_true rfl) (zf_r) dX11_keep_19 (sH_upo (by omega)) ?_
  exact z_vret K (by omega) (by omega) (⟨g', rfl, rfl, h4, fun m m1 m2 => (hx m m1).trans (ext1 m m2), ht⟩) dX11_keep_22
end XSk

