/-! ===== Creator: all jobs ===== -/
/-- the list of jobs told -/
def TL (h : zH) (L n : Nat) (Bf : Nat → Nat) (J : Nat → tTJ) (b : Nat) : Prop := (∃ (c : Int) (a K : Nat), h L = some (oL c a n) ∧ h a = some (aR K n Bf) ∧ n ≤ K ∧ K ≤ 1000 ∧ a < b) ∧ L < b ∧ ∀ x, x < n → TJ h (Bf x) (J x) ∧ Bf x + 30 ≤ b ∧ tOk (J x)
def RfH (h h' : zH) (b N M : Nat) (x c i : Int) : Prop := ∃ P : Nat, N ≤ P ∧ M = P + 1 ∧ h' (P + 1) = some (f8 17 h (.ref (P + 2)) 3) ∧ h' (P + 2) = some (f7 h (.ref P) (100 + x)) ∧ (∃ P' : Nat, h' P = some (f8 16 h (.ref P') c) ∧ ((c ≠ 3 ∧ P' = P) ∨ (c = 3 ∧ N ≤ P' ∧ P' < P ∧ h' P' = some (f7 h (.ref P') (100 + i))))) ∧ zTop h' (P + 3) ∧ ∀ m, m < N → (m < b ∨ b + 72 ≤ m) → h' m = h m
section XC4
variable {b C N L n : Nat} {u : tW} {g : zH} {Bf : Nat → Nat} {J : Nat → tTJ}
theorem x16_create (hb : 1000 ≤ b) (hC : g C = some (oCr b)) (hCb : C < b ∨ b + 72 ≤ C) (hL : TL g L n Bf J b) (hn : n ≤ 12) (hI : SIr (u 0)) (hAm : Am g) (hTp : zTop g N) (hbN : b + 72 ≤ N) :
    zMet yX16_create (wsW_ yX16_create cX16_create 4 none [(10, 22, 25, 44)]) 11 [.ref C, .ref L] (sH b u g) (fun z h' => match crA J n 0 (u 0) with | .inl s => ∃ u', z = .inl none ∧ h' = sH b u' g ∧ crS u u' ∧ u' 0 = s | .inr e => ∃ M, z = .inr M ∧ RfH (sH b u g) h' b N M e.1 e.2.1 e.2.2) 1300 17000 := by
  obtain ⟨Q, hQ⟩ : ∃ Q : zO → zH → Prop, Q = (fun z h' => match crA J n 0 (u 0) with | .inl s => ∃ u', z = .inl none ∧ h' = sH b u' g ∧ crS u u' ∧ u' 0 = s | .inr e => ∃ M, z = .inr M ∧ RfH (sH b u g) h' b N M e.1 e.2.1 e.2.2) := ⟨_, rfl⟩
  refine zMet.weaken (Q := Q) ?_ (fun z h' q => by rw [hQ] at q; exact q)
  have hY : ∀ s u', crA J n 0 (u 0) = .inl s → crS u u' → u' 0 = s → Q (.inl none) (sH b u' g) := fun s u' e h1 h2 => by rw [hQ]; dsimp only; rw [e]; exact ⟨u', rfl, rfl, h1, h2⟩
  have hX : ∀ x c i M h', crA J n 0 (u 0) = .inr (x, c, i) → RfH (sH b u g) h' b N M x c i → Q (.inr M) h' := fun x c i M h' e h1 => by rw [hQ]; dsimp only; rw [e]; exact ⟨M, rfl, h1⟩
  clear hQ
  obtain ⟨⟨cc9, a9, K9, l1, l2, l3, l4, l5⟩, hLb, hJ⟩ := hL
  have hc1 := fun u' => (sH_out (u := u') hCb).trans hC
  have tp := fun u' => sH_top (u' := u') hTp hbN
  have l1' := fun u' => (sH_out (b := b) (u := u') (g := g) (m := L) (Or.inl hLb)).trans l1
  have l2' := fun u' => (sH_out (b := b) (u := u') (g := g) (m := a9) (Or.inl l5)).trans l2
  refine zMet.ofH (by decide) (Nat.le_of_ble_eq_true rfl) fun X K => ?_
  have loop : ∀ (r x : Nat) (u' : tW), r + x = n → crS u u' → crA J r x (u' 0) = crA J n 0 (u 0) → ∀ env, zsub env [(0, .ref C), (1, .ref L), (2, .int (iI x))] → zW X Q (sH b u' g) (100 * x) (1400 * x) 2 env [] := by
    intro r
    induction r with
    | zero =>
      intro x u' hi hs he env hev
      refine zW.cut hev ?_
      have hfin := hY _ u' he.symm hs rfl
      have ksz := jl_size (l1' u')
      refine z_iload_n K dX16_create_2 rfl rfl ?_
      refine z_aload_n K dX16_create_3 rfl rfl rfl ?_
      refine z_callV K (ksz) cV_X16_38_J2 (l1' u') rfl rfl rfl (by omega) (by omega) (by omega) (Nat.le_of_ble_eq_true rfl) dX16_create_4 zrX (zrK ?_)
      refine j_icmp_ge (tgt := 42) K dX16_create_7 rfl (by omega) (by omega) (fun c_7 => ?_) (fun c_7 => ?_)
      · exact z_vret K (by omega) (by omega) (hfin) dX16_create_42
      · exact absurd c_7 (by omega)
    | succ r ih =>
      intro x u' hi hs he env hev
      refine zW.cut hev ?_
      have ksz := jl_size (l1' u')
      have kg : zG2 L (x : Int) (sH b u' g) (Bf x) := jl_get (l1' u') (l2' u') l3 (by omega) (by omega) (by omega) rfl
      obtain ⟨j1, j2, j3⟩ := hJ x (by omega)
      have tj := (sH_tj (u' := u') j1 j3.2.1.2 j2).1
      have k2 := x16_c2 (b := b) (C := C) (N := N) (B := Bf x) (u := u') (g := g) (w := J x) hb hC hCb j1 j2 j3 hs.2.2 hAm hTp hbN
      have el : ∀ c fs, thL (sH b u' g) c fs = thL (sH b u g) c fs := fun c fs => thL_ext (fun m hm => (sH_out (by omega)).trans (sH_out (by omega)).symm)
      cases ej : crJ (u' 0) (J x) with
      | inl s =>
        rw [ej] at k2
        rw [show crA J (r + 1) x (u' 0) = crA J r (x + 1) s by rw [crA, ej]] at he
        have nx := fun u'' (s1 : crS u' u'') (s2 : u'' 0 = s) => ih (x + 1) u'' (by omega) (hs.tr s1) (by rw [s2]; exact he)
        refine z_iload_n K dX16_create_2 rfl rfl ?_
        refine z_aload_n K dX16_create_3 rfl rfl rfl ?_
        refine z_callV K (ksz) cV_X16_38_J2 (l1' u') rfl rfl rfl (by omega) (by omega) (by omega) (Nat.le_of_ble_eq_true rfl) dX16_create_4 zrX (zrK ?_)
        refine j_icmp_ge (tgt := 42) K dX16_create_7 rfl (by omega) (by omega) (fun c_7 => ?_) (fun c_7 => ?_)
        · exact absurd c_7 (by omega)
        · refine z_aload_n K dX16_create_10 rfl rfl rfl ?_
          refine z_aload_n K dX16_create_11 rfl rfl rfl ?_
          refine z_iload_n K dX16_create_12 rfl rfl ?_
          refine z_callV K (kg) cV_X16_68_J2 (l1' u') rfl rfl rfl (by omega) (by omega) (by omega) (Nat.le_of_ble_eq_true rfl) dX16_create_13 zrX (zrK ?_)
          refine z_castS K (tj) rfl q1693 dX16_create_16 ?_
          refine z_cVW K k2 cV_X16_80_X16 (hc1 u') rfl rfl rfl (by omega) (by omega) (by omega) (Nat.le_of_ble_eq_true rfl) dX16_create_19 (fun q' h1 hq' => by obtain ⟨_, z, -⟩ := hq'; cases z) (fun v h1 hq' => ?_)
          obtain ⟨u'', z1, rfl, s1, s2⟩ := hq'
          cases z1
          refine z_goto (tgt := 36) K dX16_create_22 rfl ?_
          refine j_iinc K dX16_create_36 rfl (by decide) rfl ?_
          refine z_goto (tgt := 2) K dX16_create_39 rfl ?_
          exact zW.widen (by omega) (by omega) (nx u'' s1 s2 _ ⟨rfl, rfl, rfl, trivial⟩)
      | inr e =>
        obtain ⟨c, i⟩ := e
        rw [ej] at k2
        rw [show crA J (r + 1) x (u' 0) = .inr (x, c, i) by rw [crA, ej]] at he
        refine z_iload_n K dX16_create_2 rfl rfl ?_
        refine z_aload_n K dX16_create_3 rfl rfl rfl ?_
        refine z_callV K (ksz) cV_X16_38_J2 (l1' u') rfl rfl rfl (by omega) (by omega) (by omega) (Nat.le_of_ble_eq_true rfl) dX16_create_4 zrX (zrK ?_)
        refine j_icmp_ge (tgt := 42) K dX16_create_7 rfl (by omega) (by omega) (fun c_7 => ?_) (fun c_7 => ?_)
        · exact absurd c_7 (by omega)
        · refine z_aload_n K dX16_create_10 rfl rfl rfl ?_
          refine z_aload_n K dX16_create_11 rfl rfl rfl ?_
          refine z_iload_n K dX16_create_12 rfl rfl ?_
          refine z_callV K (kg) cV_X16_68_J2 (l1' u') rfl rfl rfl (by omega) (by omega) (by omega) (Nat.le_of_ble_eq_true rfl) dX16_create_13 zrX (zrK ?_)
          refine z_castS K (tj) rfl q1693 dX16_create_16 ?_
          refine z_cVW K k2 cV_X16_80_X16 (hc1 u') rfl rfl rfl (by omega) (by omega) (by omega) (Nat.le_of_ble_eq_true rfl) dX16_create_19 (fun M h1 hq' => ?_) (fun v h1 hq' => by obtain ⟨_, z, -⟩ := hq'; cases z)
          obtain ⟨M', z1, b1, ⟨P', b2, b3⟩, b4, b5⟩ := hq'
          cases z1
          refine z_catch1 K b2 rfl (by omega) (by decide) q1690 q1700 ?_
          have hAm1 : Am h1 := hAm.ext (N := 1000) (fun m hm => (b5 m (by omega) (by omega)).trans (sH_out (by omega))) (by decide)
          have k3 := x18_init (h := zup h1 (M + 1) (.inr (17, [.null, .null, .null, .null, .null, .int 0, .int 0]))) (q := M + 1) (a := M + 2) (f := M) (jb := x) (hAm1.up (by omega)) (zup_at _ _ _) ((zup_ne (by omega)).trans (b4 _ (by omega))) (by omega) (by omega)
          have el2 : ∀ c fs, thL (zup h1 (M + 1) (.inr (17, [.null, .null, .null, .null, .null, .int 0, .int 0]))) c fs = thL (sH b u g) c fs := fun c fs => (thL_up (by omega)).trans ((thL_ext (fun m hm => b5 m (by omega) (by omega))).trans (el c fs))
          have hx := hX x c i (M + 1) _ he.symm (show RfH (sH b u g) (zup (zup (zup h1 (M + 1) (.inr (17, [.null, .null, .null, .null, .null, .int 0, .int 0]))) (M + 2) (f7 (zup h1 (M + 1) (.inr (17, [.null, .null, .null, .null, .null, .int 0, .int 0]))) (.ref M) (100 + (x : Int)))) (M + 1) (f8 17 (zup h1 (M + 1) (.inr (17, [.null, .null, .null, .null, .null, .int 0, .int 0]))) (.ref (M + 2)) 3)) b N (M + 1) x c i from ⟨M, b1, rfl, by rw [zup_at]; unfold f8; rw [el2], by rw [zup_ne (by omega), zup_at]; unfold f7; rw [el2], ⟨P', by rw [zup_ne (by omega), zup_ne (by omega), zup_ne (by omega), b2]; unfold f8; rw [el], b3.imp id fun ⟨d1, d2, d3, d4⟩ => ⟨d1, d2, d3, by rw [zup_ne (by omega), zup_ne (by omega), zup_ne (by omega), d4]; unfold f7; rw [el]⟩⟩, fun m hm => by rw [zup_ne (by omega), zup_ne (by omega), zup_ne (by omega)]; exact b4 m (by omega), fun m hm hr => by rw [zup_ne (by omega), zup_ne (by omega), zup_ne (by omega), b5 m hm hr, sH_out hr, sH_out hr]⟩)
          refine z_astore_n K dX16_create_25 rfl rfl (by decide) rfl ?_
          refine z_new K (M + 1) nw_X16_83 (b4 _ (by omega)) (by omega) (by omega) (by omega) dX16_create_26 ?_
          refine z_dup K dX16_create_29 rfl ?_
          refine z_iload_n K dX16_create_30 rfl rfl ?_
          refine z_aload_n K dX16_create_31 rfl rfl rfl ?_
          refine z_cI (fs := []) K (k3) cI_X16_85 rfl rfl (by omega) (by omega) (by omega) (Nat.le_of_ble_eq_true rfl) dX16_create_32 zvX (zvK ?_)
          refine z_athrow K (zup_at _ _ _) rfl dX16_create_35 ?_
          exact z_out K rfl (by omega) (by omega) hx
  have st := loop n 0 u (by omega) ⟨fun _ _ _ => rfl, fun _ _ _ => rfl, hI⟩ rfl
  refine j_iconst K dX16_create_0 ?_
  refine z_istore_n K dX16_create_1 rfl (by decide) rfl ?_
  exact st _ ⟨rfl, rfl, rfl, trivial⟩
end XC4

