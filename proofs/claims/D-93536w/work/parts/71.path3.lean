/-! ===== the component: the path; heads, tails ===== -/
theorem lH_lH {L M : Nat} {c c' : Int} {n n' : Nat} {f f' : Nat → Nat} {g : zH} (h : M + 4 ≤ L) : lH L c n f (lH M c' n' f' g) = lH M c' n' f' (lH L c n f g) := by
  refine lH_e ?_ ?_ ?_ ?_ (fun m hm => ?_)
  · rw [lH_o (by omega), lH_0]
  · rw [lH_o (by omega), lH_1]
  · rw [lH_o (by omega), lH_2]
  · rw [lH_o (by omega), lH_3]
  · unfold lH
    rw [if_neg (show ¬ m = M by omega), if_neg (show ¬ m = M + 1 by omega), if_neg (show ¬ m = M + 2 by omega), if_neg (show ¬ m = M + 3 by omega)]
theorem x2_path_fin {X : zX} {b : Nat} {u : tW} {g G : zH} {N M : Nat} {o rd st : Nat → Int} {p : Nat → Int} {c1 : Int} {Q : zO → zH → Prop} (K : zK yX2_path cX2_path 4 (some (.object "java/util/ArrayList")) [] 9 60 1200 X) (hb : 1000 ≤ b) (hN : b + 72 ≤ N) (hA : WfA (u 0)) (hgm : Am G) (hgt : zTop G (N + 4)) (hge : zExt N g G) (hlen : M ≤ 20)
    (hpf : ∀ i : Nat, i < M → pthF (u 0) o rd st i = p (M - 1 - i) ∧ 0 ≤ pthF (u 0) o rd st i ∧ pthF (u 0) o rd st i < u 0 1) (hg1 : ∀ (i : Int) (c : Int) (n : Nat) (f : Nat → Nat), 0 ≤ i → i < (M : Int) → zG2 N i (sH b u (lH (N + 4) c n f G)) (b + 52 + (p i.toNat).toNat)) (hg0 : ∀ (c : Int) (n : Nat) (f : Nat → Nat), sH b u (lH (N + 4) c n f G) N = some (oL c1 (lA N M) M))
    (hgs : zMet yJ2_init (ws_ yJ2_init cJ2_init 1 none) 4 [.ref (N + 4)] (zup (sH b u G) (N + 4) (.inr (18, [.int 0, .null, .int 0]))) (zVd (sH b u (lH (N + 4) 0 0 (fun i => b + 52 + (pthF (u 0) o rd st i).toNat) G))) 0 0)
    (hQ : ∀ c, Q (.inl (some (.ref (N + 4)))) (sH b u (lH (N + 4) c M (fun i => b + 52 + (pthF (u 0) o rd st i).toNat) G))) : ∀ env, zsub env [(0, .ref b), (1, .ref N)] → zW X Q (sH b u G) 30 600 5 env [] := by
  have h20 := hA.2.1.1
  intro env he
  refine zW.cut he ?_
  have loop : ∀ (r : Nat) (c : Int) (n : Nat), n + r = M → ∀ env, zsub env [(1, .ref N), (2, .ref (N + 4)), (3, .int (iI ((r : Int) - 1)))] → zW X Q (sH b u (lH (N + 4) c n (fun i => b + 52 + (pthF (u 0) o rd st i).toNat) G)) (31 + n) (603 + 22 * n) 20 env [] := by
    intro r
    induction r with
    | zero =>
      intro c n hn env he
      refine zW.cut he ?_
      obtain rfl : n = M := by omega
      refine z_iload_n K dX2_path_20 rfl rfl ?_
      refine j_if_lt (tgt := 43) K dX2_path_21 rfl (by omega) (fun c_21 => ?_) (fun c_21 => ?_)
      · refine z_aload_n K dX2_path_43 rfl rfl rfl ?_
        exact z_aret K (by simp) rfl (by omega) (by omega) (hQ c) dX2_path_44
      · exact absurd c_21 (by omega)
    | succ r ih =>
      intro c n hn env he
      refine zW.cut he ?_
      have hls : ∀ i, i < n → zOb (sH b u (lH (N + 4) c n (fun i => b + 52 + (pthF (u 0) o rd st i).toNat) G)) (b + 52 + (pthF (u 0) o rd st i).toNat) := fun i hi => zOb_op (hpf i (by omega)).2 (by omega)
      obtain ⟨e1, e2⟩ := hpf n (by omega)
      have hadd := jl_addS (b := b) (u := u) (g := G) (L := N + 4) (c := c) (n := n) (f := fun i => b + 52 + (pthF (u 0) o rd st i).toNat) (x := b + 52 + (pthF (u 0) o rd st n).toNat) hgm (by omega) hb (by omega) (zOb_op e2 (by omega)) hls
      have hcg : (fun i => if i = n then b + 52 + (pthF (u 0) o rd st n).toNat else b + 52 + (pthF (u 0) o rd st i).toNat) = fun i => b + 52 + (pthF (u 0) o rd st i).toNat := by
        funext i
        by_cases e : i = n
        · rw [if_pos e, e]
        · rw [if_neg e]
      rw [hcg] at hadd
      have hgt1 := hg1 (((r + 1 : Nat) : Int) - 1) c n (fun i => b + 52 + (pthF (u 0) o rd st i).toNat) (by omega) (by omega)
      rw [show (((r + 1 : Nat) : Int) - 1).toNat = M - 1 - n by omega, ← e1] at hgt1
      have hop := sH_op (b := b) (u := u) (g := lH (N + 4) c n (fun i => b + 52 + (pthF (u 0) o rd st i).toNat) G) e2 (by omega)
      have nx := ih (c + 1) (n + 1) (by omega)
      rw [show 31 + (n + 1) = 31 + n + 1 by omega, show 603 + 22 * (n + 1) = 603 + 22 * n + 22 by omega] at nx
      refine z_iload_n K dX2_path_20 rfl rfl ?_
      refine j_if_lt (tgt := 43) K dX2_path_21 rfl (by omega) (fun c_21 => ?_) (fun c_21 => ?_)
      · exact absurd c_21 (by omega)
      · refine z_aload_n K dX2_path_24 rfl rfl rfl ?_
        refine z_aload_n K dX2_path_25 rfl rfl rfl ?_
        refine z_iload_n K dX2_path_26 rfl rfl ?_
        refine z_callV K (hgt1) cV_X2_59_J2 (hg0 _ _ _) rfl rfl rfl (by omega) (by omega) (by omega) (Nat.le_of_ble_eq_true rfl) dX2_path_27 zrX (zrK ?_)
        refine z_castS K (hop) rfl q408 dX2_path_30 ?_
        refine z_callV K (hadd) cV_X2_47_J2 (sH_l0 (by omega)) rfl rfl rfl (by omega) (by omega) (by omega) (Nat.le_of_ble_eq_true rfl) dX2_path_33 zrX (zrK ?_)
        refine z_pop K dX2_path_36 rfl ?_
        refine j_iinc K dX2_path_37 rfl (by decide) rfl ?_
        refine z_goto (tgt := 20) K dX2_path_40 rfl ?_
        exact nx _ ⟨rfl, rfl, by rw [show ((r + 1 : Nat) : Int) - 1 + -1 = (r : Int) - 1 by omega]; rfl, trivial⟩
  have hsz := jl_size (hg0 0 0 (fun i => b + 52 + (pthF (u 0) o rd st i).toNat))
  refine z_new K (N + 4) nw_X2_9 ((sH_out (by omega)).trans (hgt (N + 4) (Nat.le_refl _))) (by omega) (by omega) (by omega) dX2_path_5 ?_
  refine z_dup K dX2_path_8 rfl ?_
  refine z_cI (fs := []) K (hgs) cI_X2_11 rfl rfl (by omega) (by omega) (by omega) (Nat.le_of_ble_eq_true rfl) dX2_path_9 zvX (zvK ?_)
  refine z_astore_n K dX2_path_12 rfl rfl (by decide) rfl ?_
  refine z_aload_n K dX2_path_13 rfl rfl rfl ?_
  refine z_callV K (hsz) cV_X2_55_J2 (hg0 _ _ _) rfl rfl rfl (by omega) (by omega) (by omega) (Nat.le_of_ble_eq_true rfl) dX2_path_14 zrX (zrK ?_)
  refine j_iconst K dX2_path_17 ?_
  refine j_isub K dX2_path_18 ?_
  refine z_istore_n K dX2_path_19 rfl (by decide) rfl ?_
  exact loop M 0 0 (by omega) _ ⟨rfl, rfl, rfl, trivial⟩
section XPc
variable {b : Nat} {u : tW} {g : zH} {N : Nat}
theorem x2_path {o rd st : Nat → Int} {hd hu : Int} (hb : 1000 ≤ b) (hN : b + 72 ≤ N) (hAm : Am g) (hTp : zTop g N) (hA : WfA (u 0)) (hO : WfO (u 0)) (hS : SF u o rd st) (hT : Tp (u 0) o hd hu rd st) : zMet yX2_path (ws_ yX2_path cX2_path 4 (some (.object "java/util/ArrayList"))) 9 [.ref b] (sH b u g) (fun z h' => ∃ (c : Int) (g' : zH), z = .inl (some (.ref (N + 4))) ∧ h' = sH b u (lH (N + 4) c (pthS (u 0) o rd st).length (fun i => b + 52 + (pthF (u 0) o rd st i).toNat) g') ∧ zExt N g g' ∧ zTop g' (N + 4) ∧ (pthS (u 0) o rd st).length ≤ 20 ∧ ∀ i : Nat, i < (pthS (u 0) o rd st).length → 0 ≤ pthF (u 0) o rd st i ∧ pthF (u 0) o rd st i < u 0 1) 60 1200 := by
  have h20 := hA.2.1.1
  have hpb := x2_pathB (b := b) (u := u) (g := g) (N := N) hb hN hAm hTp hA hO hS hT
  refine zMet.of (by decide) (Nat.le_of_ble_eq_true rfl) fun X K => ?_
  refine z_aload_n K dX2_path_0 rfl rfl rfl ?_
  refine z_callV K (hpb) cV_X2_206_X2 (sH_shop) rfl rfl rfl (by omega) (by omega) (by omega) (Nat.le_of_ble_eq_true rfl) dX2_path_1 (fun _ _ ⟨_, _, e, _⟩ => nomatch e) ?_
  rintro _ _ ⟨c1, p, ez, rfl, hlen, hp⟩
  cases ez
  refine z_astore_n K dX2_path_4 rfl rfl (by decide) rfl ?_
  have hgm := hAm.ext (lH_ext (L := N) (c := c1) (n := (pthS (u 0) o rd st).length) (f := fun i => b + 52 + (p i).toNat) (g := g)) (by omega)
  have hgt := lH_top (L := N) (c := c1) (n := (pthS (u 0) o rd st).length) (f := fun i => b + 52 + (p i).toNat) hTp
  have hge : zExt N g (lH N c1 (pthS (u 0) o rd st).length (fun i => b + 52 + (p i).toNat) g) := lH_ext
  have hpf : ∀ i : Nat, i < (pthS (u 0) o rd st).length → pthF (u 0) o rd st i = p ((pthS (u 0) o rd st).length - 1 - i) ∧ 0 ≤ pthF (u 0) o rd st i ∧ pthF (u 0) o rd st i < u 0 1 := fun i hi => by unfold pthF; (have z := hp ((pthS (u 0) o rd st).length - 1 - i) (by omega)); rw [z.1]; exact ⟨rfl, z.2⟩
  have hg1 : ∀ (g1 : zH) (i : Int), g1 = lH N c1 (pthS (u 0) o rd st).length (fun i => b + 52 + (p i).toNat) g → ∀ (c : Int) (n : Nat) (f : Nat → Nat), 0 ≤ i → i < (pthS (u 0) o rd st).length → zG2 N i (sH b u (lH (N + 4) c n f g1)) (b + 52 + (p i.toNat).toNat) := fun g1 i e c n f i0 i1 => by (have e2 : lH (N + 4) c n f g1 = lH N c1 (pthS (u 0) o rd st).length (fun i => b + 52 + (p i).toNat) (lH (N + 4) c n f g) := by (rw [e]; exact lH_lH (by omega))); rw [e2]; exact jl_getS (f := fun i => b + 52 + (p i).toNat) hN ⟨i0, i1⟩ (by omega)
  have hg0 : ∀ (g1 : zH), g1 = lH N c1 (pthS (u 0) o rd st).length (fun i => b + 52 + (p i).toNat) g → ∀ (c : Int) (n : Nat) (f : Nat → Nat), sH b u (lH (N + 4) c n f g1) N = some (oL c1 (lA N (pthS (u 0) o rd st).length) (pthS (u 0) o rd st).length) := fun g1 e c n f => by rw [sH_out (by omega), lH_o (by omega), e, lH_0]
  have hgs := jl_newS (b := b) (u := u) (L := N + 4) (f := fun i => b + 52 + (pthF (u 0) o rd st i).toNat) hgm hgt (by omega) hb
  generalize hG : lH N c1 (pthS (u 0) o rd st).length (fun i => b + 52 + (p i).toNat) g = G at *
  generalize hLn : (pthS (u 0) o rd st).length = M at *
  exact x2_path_fin K hb hN hA hgm hgt hge hlen hpf (fun i c n f i0 i1 => hg1 G i rfl c n f i0 i1) (fun c n f => hg0 G rfl c n f) hgs (fun c => ⟨c, G, rfl, rfl, hge, hgt, hlen, fun i hi => (hpf i hi).2⟩) _ ⟨rfl, rfl, trivial⟩
end XPc

