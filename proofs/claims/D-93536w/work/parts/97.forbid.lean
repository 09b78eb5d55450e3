/-! ===== the component: whether a swap is forbidden ===== -/
/-- among the first n that were made: one puts s before f, at the step d or later -/
def fbN (F G T : Nat → Int) (f s d : Int) : Nat → Int
  | 0 => 0
  | n + 1 => if fbN F G T f s d n = 1 ∨ (F n = s ∧ G n = f ∧ d ≤ T n) then 1 else 0
theorem fbN_r (F G T : Nat → Int) (f s d : Int) : ∀ n, fbN F G T f s d n = 0 ∨ fbN F G T f s d n = 1
  | 0 => Or.inl rfl
  | n + 1 => by unfold fbN; split <;> omega
theorem or_10 {a : Int} (h : a = 0 ∨ a = 1) : iI a ||| iI 1 = iI 1 := by rcases h with rfl | rfl <;> decide +kernel
theorem or_00 {a : Int} (h : a = 0 ∨ a = 1) : iI a ||| iI 0 = iI a := by rcases h with rfl | rfl <;> decide +kernel
section XFb
variable {h : zH} {S b L B : Nat} {x : Nat → Int}
theorem x11_isForbidden {a N n : Nat} {c f s : Int} {M : Nat → Nat} {F G T : Nat → Int} (hS : h S = some (.inr (10, seF b L B x))) (hL : h L = some (oL c a n)) (ha : n ≠ 0 → h a = some (aR N n M)) (hnN : n ≤ N) (hN : N ≤ 1000) (hM : ∀ i, i < n → h (M i) = some (.inr (11, [.int (iI (F i)), .int (iI (G i)), .int (iI (T i))]))) (hr : ∀ i, i < n → (-1000 ≤ F i ∧ F i ≤ 1000) ∧ (-1000 ≤ G i ∧ G i ≤ 1000) ∧ -1000 ≤ T i ∧ T i ≤ 1000) (hf : -1000 ≤ f ∧ f ≤ 1000) (hs : -1000 ≤ s ∧ s ≤ 1000) (hx0 : -1000 ≤ x 0 ∧ x 0 ≤ 1000) (hx2 : -1000 ≤ x 2 ∧ x 2 ≤ 1000) :
    zMet yX11_isForbidden (ws_ yX11_isForbidden cX11_isForbidden 6 (some .boolean)) 4 [.ref S, .int (iI f), .int (iI s)] h (zRet (.int (iI (fbN F G T f s (x 2 - x 0) n))) h) 0 0 := by
  have hsz := jl_size hL
  refine zMet.of (by decide) (Nat.le_of_ble_eq_true rfl) fun X K => ?_
  have loop : ∀ (r k : Nat), k + r = n → ∀ env, zsub env [(0, .ref S), (1, .int (iI f)), (2, .int (iI s)), (3, .int (iI (fbN F G T f s (x 2 - x 0) k))), (4, .int (iI k))] → zW X (zRet (.int (iI (fbN F G T f s (x 2 - x 0) n))) h) h 0 0 5 env [] := by
    intro r
    induction r with
    | zero =>
      intro k hk env he
      obtain rfl : k = n := by omega
      refine zW.cut he ?_
      have h01 := fbN_r F G T f s (x 2 - x 0) k
      refine z_iload K dX11_isForbidden_5 rfl ?_
      refine z_aload_n K dX11_isForbidden_7 rfl rfl rfl ?_
      refine z_get K fd_X11_12_10 (hS) rfl dX11_isForbidden_8 ?_
      refine z_callV K (hsz) cV_X11_44_J2 (hL) rfl rfl rfl (by omega) (by omega) (by omega) (Nat.le_of_ble_eq_true rfl) dX11_isForbidden_11 zrX (zrK ?_)
      refine j_icmp_ge (tgt := 80) K dX11_isForbidden_14 rfl (by omega) (by omega) (fun c_14 => ?_) (fun c_14 => ?_)
      · refine z_iload_n K dX11_isForbidden_80 rfl rfl ?_
        exact z_zret K (iI_b (by omega)) (by omega) (by omega) (⟨rfl, rfl⟩) dX11_isForbidden_81
      · exact absurd c_14 (by omega)
    | succ r ih =>
      intro k hk env he
      refine zW.cut he ?_
      have nx := ih (k + 1) (by omega)
      clear ih
      have hg : zG2 L k h (M k) := jl_get hL (ha (by omega)) hnN (by omega) (by omega) (by omega) rfl
      have hm := hM k (by omega)
      obtain ⟨r1, r2, r3⟩ := hr k (by omega)
      have h01 := fbN_r F G T f s (x 2 - x 0) k
      rw [show fbN F G T f s (x 2 - x 0) (k + 1) = if fbN F G T f s (x 2 - x 0) k = 1 ∨ (F k = s ∧ G k = f ∧ x 2 - x 0 ≤ T k) then 1 else 0 from rfl] at nx
      have yes : (F k = s ∧ G k = f ∧ x 2 - x 0 ≤ T k) → ∀ env, zsub env [(0, .ref S), (1, .int (iI f)), (2, .int (iI s)), (3, .int (iI 1)), (4, .int (iI ((k : Int) + 1)))] → zW X (zRet (.int (iI (fbN F G T f s (x 2 - x 0) n))) h) h 0 0 5 env [] := fun q => by
        rw [if_pos (Or.inr q)] at nx
        exact nx
      have no : ¬ (F k = s ∧ G k = f ∧ x 2 - x 0 ≤ T k) → ∀ env, zsub env [(0, .ref S), (1, .int (iI f)), (2, .int (iI s)), (3, .int (iI (fbN F G T f s (x 2 - x 0) k))), (4, .int (iI ((k : Int) + 1)))] → zW X (zRet (.int (iI (fbN F G T f s (x 2 - x 0) n))) h) h 0 0 5 env [] := fun q => by
        rw [show (if fbN F G T f s (x 2 - x 0) k = 1 ∨ (F k = s ∧ G k = f ∧ x 2 - x 0 ≤ T k) then (1 : Int) else 0) = fbN F G T f s (x 2 - x 0) k by split <;> omega] at nx
        exact nx
      clear nx
      refine z_iload K dX11_isForbidden_5 rfl ?_
      refine z_aload_n K dX11_isForbidden_7 rfl rfl rfl ?_
      refine z_get K fd_X11_12_10 (hS) rfl dX11_isForbidden_8 ?_
      refine z_callV K (hsz) cV_X11_44_J2 (hL) rfl rfl rfl (by omega) (by omega) (by omega) (Nat.le_of_ble_eq_true rfl) dX11_isForbidden_11 zrX (zrK ?_)
      refine j_icmp_ge (tgt := 80) K dX11_isForbidden_14 rfl (by omega) (by omega) (fun c_14 => ?_) (fun c_14 => ?_)
      · exact absurd c_14 (by omega)
      · refine z_aload_n K dX11_isForbidden_17 rfl rfl rfl ?_
        refine z_get K fd_X11_12_10 (hS) rfl dX11_isForbidden_18 ?_
        refine z_iload K dX11_isForbidden_21 rfl ?_
        refine z_callV K (hg) cV_X11_48_J2 (hL) rfl rfl rfl (by omega) (by omega) (by omega) (Nat.le_of_ble_eq_true rfl) dX11_isForbidden_23 zrX (zrK ?_)
        refine z_castS K (hm) rfl q1301 dX11_isForbidden_26 ?_
        refine z_astore K dX11_isForbidden_29 rfl (by decide) rfl ?_
        refine z_iload_n K dX11_isForbidden_31 rfl rfl ?_
        refine z_aload K dX11_isForbidden_32 rfl rfl ?_
        refine z_get K fd_X11_54_11 (hm) rfl dX11_isForbidden_34 ?_
        refine z_iload_n K dX11_isForbidden_37 rfl rfl ?_
        refine j_icmp_ne (tgt := 71) K dX11_isForbidden_38 rfl (by omega) (by omega) (fun c_38 => ?_) (fun c_38 => ?_)
        · have zz := no (fun q => by omega)
          refine j_iconst K dX11_isForbidden_71 ?_
          refine z_ior K dX11_isForbidden_72 ?_
          first | rw [or_10 h01] | rw [or_00 h01]
          refine z_istore_n K dX11_isForbidden_73 rfl (by decide) rfl ?_
          refine j_iinc K dX11_isForbidden_74 rfl (by decide) rfl ?_
          refine z_goto (tgt := 5) K dX11_isForbidden_77 rfl ?_
          exact zz _ ⟨rfl, rfl, rfl, rfl, rfl, trivial⟩
        · refine z_aload K dX11_isForbidden_41 rfl rfl ?_
          refine z_get K fd_X11_57_11 (hm) rfl dX11_isForbidden_43 ?_
          refine z_iload_n K dX11_isForbidden_46 rfl rfl ?_
          refine j_icmp_ne (tgt := 71) K dX11_isForbidden_47 rfl (by omega) (by omega) (fun c_47 => ?_) (fun c_47 => ?_)
          · have zz := no (fun q => by omega)
            refine j_iconst K dX11_isForbidden_71 ?_
            refine z_ior K dX11_isForbidden_72 ?_
            first | rw [or_10 h01] | rw [or_00 h01]
            refine z_istore_n K dX11_isForbidden_73 rfl (by decide) rfl ?_
            refine j_iinc K dX11_isForbidden_74 rfl (by decide) rfl ?_
            refine z_goto (tgt := 5) K dX11_isForbidden_77 rfl ?_
            exact zz _ ⟨rfl, rfl, rfl, rfl, rfl, trivial⟩
          · refine z_aload K dX11_isForbidden_50 rfl rfl ?_
            refine z_get K fd_X11_60_11 (hm) rfl dX11_isForbidden_52 ?_
            refine z_aload_n K dX11_isForbidden_55 rfl rfl rfl ?_
            refine z_get K fd_X11_63_10 (hS) rfl dX11_isForbidden_56 ?_
            refine z_aload_n K dX11_isForbidden_59 rfl rfl rfl ?_
            refine z_get K fd_X11_22_10 (hS) rfl dX11_isForbidden_60 ?_
            refine j_isub K dX11_isForbidden_63 ?_
            refine j_icmp_lt (tgt := 71) K dX11_isForbidden_64 rfl (by omega) (by omega) (fun c_64 => ?_) (fun c_64 => ?_)
            · have zz := no (fun q => by omega)
              refine j_iconst K dX11_isForbidden_71 ?_
              refine z_ior K dX11_isForbidden_72 ?_
              first | rw [or_10 h01] | rw [or_00 h01]
              refine z_istore_n K dX11_isForbidden_73 rfl (by decide) rfl ?_
              refine j_iinc K dX11_isForbidden_74 rfl (by decide) rfl ?_
              refine z_goto (tgt := 5) K dX11_isForbidden_77 rfl ?_
              exact zz _ ⟨rfl, rfl, rfl, rfl, rfl, trivial⟩
            · have zz := yes ⟨by omega, by omega, by omega⟩
              refine j_iconst K dX11_isForbidden_67 ?_
              refine z_goto (tgt := 72) K dX11_isForbidden_68 rfl ?_
              refine z_ior K dX11_isForbidden_72 ?_
              first | rw [or_10 h01] | rw [or_00 h01]
              refine z_istore_n K dX11_isForbidden_73 rfl (by decide) rfl ?_
              refine j_iinc K dX11_isForbidden_74 rfl (by decide) rfl ?_
              refine z_goto (tgt := 5) K dX11_isForbidden_77 rfl ?_
              exact zz _ ⟨rfl, rfl, rfl, rfl, rfl, trivial⟩
  have go := loop n 0 (by omega)
  have go : ∀ env, zsub env [(0, .ref S), (1, .int (iI f)), (2, .int (iI s)), (3, .int (iI 0)), (4, .int (iI 0))] → zW X (zRet (.int (iI (fbN F G T f s (x 2 - x 0) n))) h) h 0 0 5 env [] := go
  clear loop
  refine j_iconst K dX11_isForbidden_0 ?_
  refine z_istore_n K dX11_isForbidden_1 rfl (by decide) rfl ?_
  refine j_iconst K dX11_isForbidden_2 ?_
  refine z_istore K dX11_isForbidden_3 (by decide) rfl ?_
  exact go _ ⟨rfl, rfl, rfl, rfl, rfl, trivial⟩
end XFb

