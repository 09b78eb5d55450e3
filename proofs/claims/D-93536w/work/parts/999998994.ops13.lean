/-! ===== the component's operations: move ===== -/
section XP4
variable {b N M : Nat} {u u' w w' : tW} {g g' : zH} {s s1 : Nat → Int}
theorem sPut_exF {f : Nat → Int} {p : Nat} (hp : p + 1 < 5) : sPut s M 5 (exF f p) = sXc (sPut s M 5 f) M p := by
  have h := sPut_ex (s := sPut s M 5 f) (m := M) hp
  rw [sPut_2] at h
  rw [← h]
  refine sPut_e fun j hj => ?_
  unfold exF
  have e : ∀ q, q < 5 → sPut s M 5 f (183 + 5 * M + q) = f q := fun q hq => sPut_at hq
  by_cases c1 : j = p + 1
  · rw [c1, sup_s, sup_s]; exact (e p (by omega)).symm
  · rw [sup_n c1, sup_n c1]
    by_cases c2 : j = p
    · rw [c2, sup_s, sup_s]; exact (e (p + 1) (by omega)).symm
    · rw [sup_n c2, sup_n c2]; exact (e j hj).symm
theorem sPut_upF {f : Nat → Int} {a : Nat} : ∀ n : Nat, a + n < 5 → sPut s M 5 (upF f a n) = sUp (sPut s M 5 f) M a n
  | 0, _ => rfl
  | n + 1, h => by
    show sPut s M 5 (exF (upF f a n) (a + n)) = sXc (sUp (sPut s M 5 f) M a n) M (a + n)
    rw [sPut_exF (by omega), sPut_upF n (by omega)]
    rfl
theorem sPut_dnF {f : Nat → Int} {a : Nat} (ha : a < 5) : ∀ n : Nat, n ≤ a → sPut s M 5 (dnF f a n) = sDn (sPut s M 5 f) M a n
  | 0, _ => rfl
  | n + 1, h => by
    show sPut s M 5 (exF (dnF f a n) (a - n - 1)) = sXc (sDn (sPut s M 5 f) M a n) M (a - n - 1)
    rw [sPut_exF (by omega), sPut_dnF ha n (by omega), show ((a - n - 1 : Nat) : Int) = (a : Int) - n - 1 by omega]
theorem sPut_mv {a c : Nat} (ha : a < 5) (hc : c < 5) : sPut s M 5 (dnF (upF (fun q => s (183 + 5 * M + q)) a (c - a)) a (a - c)) = sSh s M a c := by
  unfold sSh
  rw [sPut_dnF ha _ (by omega), sPut_upF _ (by omega), sPut_i, show ((c : Int) - a).toNat = c - a by omega, show ((a : Int) - c).toNat = a - c by omega]
theorem x1_move {k p : Int} (hC : CG b N u g w) (hI : TI w) (hk : i32 k) (hp : i32 p) : zMet yX1_move (ws_ yX1_move cX1_move 5 (some .int)) 10 [.ref 1040, .int (iI k), .int (iI p)] (sH b u g) (cQ (sH b u g) (pubQ w (tcMove w k p) (chE w (sSh (w 0) (w 0 (62 + k).toNat) (sPos (w 0) k) p))) (cdA 24 22 23)) 10 70 := by
  have n8 := hC.n8
  have er := hC.row
  have h20 := hC.A.2.1.1
  obtain ⟨sv, T, fl, cl, a1, -⟩ := hC.2.2.2.2.2.2.2.2.2.2
  have hx : ∀ u' g', zExt N g g' → sH b u' g' 1040 = some (oX b sv T fl cl (w 10 0)) := fun u' g' h => (sH_out (by omega)).trans ((h 1040 (by omega)).trans a1)
  have k0 := x1_operationAt hC hk
  generalize hR : pubQ w (tcMove w k p) (chE w (sSh (w 0) (w 0 (62 + k).toNat) (sPos (w 0) k) p)) = R
  have hex : ¬ (0 ≤ k ∧ k ≤ u 0 1 - 1) → cQ (sH b u g) R (cdA 24 22 23) (.inr N) (zup (sH b u g) N (oEx 24 (sH b u g) N)) := fun ck => cQ.ex hC hC.lo (by decide) (fun v' w' r => by rw [← hR] at r; exact pubQ.ex r (if_pos (by rw [← er]; omega)) (by decide))
  have hex2 : (0 ≤ k ∧ k ≤ u 0 1 - 1) → ¬ (0 ≤ p ∧ p ≤ u 0 (179 + u 0 (62 + k).toNat).toNat - 1) → cQ (sH b u g) R (cdA 24 22 23) (.inr N) (zup (sH b u g) N (oEx 22 (sH b u g) N)) := fun c1 ck => cQ.ex hC hC.lo (by decide) (fun v' w' r => by rw [← hR] at r; exact pubQ.ex r ((if_neg (not_not_intro (by rw [← er]; omega))).trans (if_pos (by rw [← er]; exact ck))) (by decide))
  refine zMet.of (by decide) (Nat.le_of_ble_eq_true rfl) fun X K => ?_
  have main : (0 ≤ k ∧ k ≤ u 0 1 - 1) → (0 ≤ p ∧ p ≤ u 0 (179 + u 0 (62 + k).toNat).toNat - 1) → ∀ env, zsub env [(0, .ref 1040), (1, .int (iI k)), (2, .int (iI p)), (3, .ref (b + 20 + (u 0 (62 + k).toNat).toNat))] → zW X (cQ (sH b u g) R (cdA 24 22 23)) (sH b u g) 2 12 36 env [] := by
    intro c1 c2 env he
    refine zW.cut he ?_
    have mr := (hC.A.2.1.2 k c1.1 (by omega)).2.1
    have hps := (hC.O.pos ⟨c1.1, by omega⟩ mr)
    unfold sMc at mr
    obtain ⟨M, hM⟩ : ∃ M : Nat, u 0 (62 + k).toNat = M := ⟨(u 0 (62 + k).toNat).toNat, by omega⟩
    have hM' : sMc (u 0) k = M := hM
    obtain ⟨A, hA9⟩ : ∃ A : Nat, sPos (u 0) k = A := ⟨(sPos (u 0) k).toNat, by have := hps.1.1; omega⟩
    obtain ⟨P, rfl⟩ : ∃ P : Nat, p = P := ⟨p.toNat, by omega⟩
    rw [hM', hA9] at hps
    rw [hM] at mr c2
    have kc := x1_copy (u := u) (m := (M : Int)) hC.2.2.2.1 n8.2.2.1 n8.1 mr
    have on := (hC.O M mr.1 mr.2).1
    have pl := hps.2
    unfold sOn at on pl
    have e9 : (179 + (M : Int)).toNat = 179 + M := by omega
    rw [Int.toNat_natCast] at kc
    rw [e9] at on c2 kc pl
    obtain ⟨hA1, hO1, lo⟩ := sSh_W (m := (M : Int)) (a := (A : Int)) (b := (P : Int)) mr ⟨by omega, by unfold sOn; rw [e9]; omega⟩ ⟨by omega, by unfold sOn; rw [e9]; omega⟩ hC.A hC.O
    have kp := x1_posOf (b := b) (u := u) (g := tO N (u 0 (179 + M)) (fun q => u 0 (183 + 5 * M + q)) g) hC.A hC.O ⟨c1.1, by omega⟩ hM'
    rw [hA9] at kp
    have kmv := x3_move (a := A) (c := P) (sH_oN (b := b) (u := u) (m := M) (g := tO N (u 0 (179 + M)) (fun q => u 0 (183 + 5 * M + q)) g) (by omega)) (sH_rN (m := M) (by omega)) (by omega) (by omega) (by omega)
    rw [sH_rowF (by omega) hC.A.1, sPut_mv (by omega) (by omega)] at kmv
    have kst := x1_settled (u := wRow u (sSh (u 0) M A P)) (g := tO N (u 0 (179 + M)) (fun q => u 0 (183 + 5 * M + q)) g) (N := N + 2) (O := N) (M := M) (s := u 0) ((tO_o (by omega)).trans a1) n8.2.1 (by omega) (by omega) (hC.2.2.1.ext tO_ext (by omega)) (tO_top hC.2.2.2.1) (by rw [wRow_0]; exact hA1) (by rw [wRow_0]; exact hO1) ((SO.row.bk hC.A.2.2.2.2.2 (fun i hi => by rw [wRow_0]; exact lo i (by omega)) hC.bk).ext tO_ext hC.2.2.2.1) (by rw [wRow_f (by decide)]; exact hC.2.2.2.2.2.2.2.1) (by rw [wRow_f (by decide)]; exact hC.2.2.2.2.2.2.2.2.1) tO_0 tO_1 n8.2.2.1 (by rw [wRow_0, ← sPut_mv (by omega) (by omega), sPut_2, sPut_i])
    have kst2 := kst.weaken (Q' := cQ (sH b u g) R (cdA 24 22 23)) (fun z h' hq => chg_fin (O := N) hC hI a1 hA1 hO1 (fun i hi => lo i (by omega)) (lo 1 (by omega)) hq rfl (fun v' w' r => by rw [← hR] at r; rw [← er, hM, hA9] at r; exact r.1 ((if_neg (not_not_intro (by rw [← er]; omega))).trans (if_neg (not_not_intro (by rw [← er, hM, e9]; exact c2))))))
    have lkc : ∀ k f, sH b u (tO N k f g) (b + 20 + M) = some (oO (b + 24 + M) (u 0 (179 + M))) := fun k f => sH_oN (by omega)
    rw [hM, Int.toNat_natCast]
    refine z_aload_n K dX1_move_36 rfl rfl rfl ?_
    refine z_callS K (kc) cS_X1_233 rfl rfl (by omega) (by omega) (by omega) (Nat.le_of_ble_eq_true rfl) dX1_move_37 zrX (zrK ?_)
    refine z_astore K dX1_move_40 rfl (by decide) rfl ?_
    refine z_aload_n K dX1_move_42 rfl rfl rfl ?_
    refine z_aload_n K dX1_move_43 rfl rfl rfl ?_
    refine z_iload_n K dX1_move_44 rfl rfl ?_
    refine z_callV K (kp) cV_X1_142_X3 (lkc _ _) rfl rfl rfl (by omega) (by omega) (by omega) (Nat.le_of_ble_eq_true rfl) dX1_move_45 zrX (zrK ?_)
    refine z_iload_n K dX1_move_48 rfl rfl ?_
    refine z_callV K (kmv) cV_X1_245_X3 (lkc _ _) rfl rfl rfl (by omega) (by omega) (by omega) (Nat.le_of_ble_eq_true rfl) dX1_move_49 zvX (zvK ?_)
    refine z_aload_n K dX1_move_52 rfl rfl rfl ?_
    refine z_aload_n K dX1_move_53 rfl rfl rfl ?_
    refine z_aload K dX1_move_54 rfl rfl ?_
    refine z_cVW K kst2 cV_X1_241_X1 (hx _ _ tO_ext) rfl rfl rfl (by omega) (by omega) (by omega) (Nat.le_of_ble_eq_true rfl) dX1_move_56 (fun q h1 hq => z_out K rfl (by omega) (by omega) hq) (fun v h1 hq => ?_)
    obtain ⟨-, ⟨v9, z, -⟩ | ⟨_, _, _, z, -⟩⟩ := id hq
    rotate_left
    · cases z
    cases z
    exact z_iret K (by omega) (by omega) (hq) dX1_move_59
  refine z_aload_n K dX1_move_0 rfl rfl rfl ?_
  refine z_get K fd_X1_16_1 (hx _ _ zExt.rf) rfl dX1_move_1 ?_
  refine z_get K fd_X1_64_2 (sH_shop) rfl dX1_move_4 ?_
  refine z_aload_n K dX1_move_7 rfl rfl rfl ?_
  refine z_iload_n K dX1_move_8 rfl rfl ?_
  refine z_callV K (k0) cV_X1_109_X1 (hx _ _ zExt.rf) rfl rfl rfl (by omega) (by omega) (by omega) (Nat.le_of_ble_eq_true rfl) dX1_move_9 (ckX fun ck_9 => z_out K rfl (by omega) (by omega) (hex ck_9)) (rkK fun ck_9 => ?_)
  have mr := (hC.A.2.1.2 k ck_9.1 (by omega)).2.1
  unfold sMc at mr
  have hon := (hC.O _ mr.1 mr.2).1
  unfold sOn at hon
  refine z_get K fd_X1_133_5 (sH_op ⟨by omega, by omega⟩ (by omega)) rfl dX1_move_12 ?_
  refine z_callV K (gt_ord ⟨by omega, by omega⟩) cV_X1_53_J2 (sH_ords) rfl rfl rfl (by omega) (by omega) (by omega) (Nat.le_of_ble_eq_true rfl) dX1_move_15 zrX (zrK ?_)
  refine z_castS K (sH_ord ⟨by omega, by omega⟩) rfl q917 dX1_move_18 ?_
  refine z_astore_n K dX1_move_21 rfl rfl (by decide) rfl ?_
  refine z_iload_n K dX1_move_22 rfl rfl ?_
  refine j_iconst K dX1_move_23 ?_
  refine z_aload_n K dX1_move_24 rfl rfl rfl ?_
  refine z_get K fd_X1_150_3 (sH_ord ⟨by omega, by omega⟩) rfl dX1_move_25 ?_
  refine j_iconst K dX1_move_28 ?_
  refine j_isub K dX1_move_29 ?_
  refine z_callS K (x1_inG (h := sH b u g) (x := p) (a := 0) (b := u 0 (179 + u 0 (62 + k).toNat).toNat - 1) hp (by omega) (by omega)) cS_X1_3 rfl rfl (by omega) (by omega) (by omega) (Nat.le_of_ble_eq_true rfl) dX1_move_30 zrX (zrK ?_)
  refine z_callS K (x1_check (h := sH b u g) (N := N) hC.am (b01r _) hC.fr n8.2.2.2) cS_X1_80 rfl rfl (by omega) (by omega) (by omega) (Nat.le_of_ble_eq_true rfl) dX1_move_33 (ckX fun ck_33 => z_out K rfl (by omega) (by omega) (hex2 ck_9 (fun q => ck_33 (by rw [if_pos q]; decide)))) (ckK fun ck_33 => ?_)
  exact main ck_9 (bI_n ck_33) _ ⟨rfl, rfl, rfl, rfl, trivial⟩
end XP4

