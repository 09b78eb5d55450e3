/-! ===== the reference is made (printed by tools/gent.py) ===== -/
/-- the reference's cells beside others -/
def ov (w : tW) (h : zH) : zH := fun m => if 1000 ≤ m ∧ m < 1038 then tH w m else h m
def tNew : tW := fun f _ => if f = 14 then -1 else 0
def tZ (f : Nat) : zC := .inl (tty f, tlen f, .inl fun _ => 0)
/-- some of its arrays are there -/
def gA (L : List Nat) (h : zH) : zH := fun m => if 1001 ≤ m ∧ L.contains (m - 1001) = true then some (tZ (m - 1001)) else h m
def tfn (L : List Nat) (hd : Int) (f : Nat) : Value := cond (Nat.beq (tlen f) 0) (.int (iI (if f = 14 then hd else 0))) (cond (L.contains f) (.ref (1001 + f)) .null)
def fsL (L : List Nat) (hd : Int) : List Value := [tfn L hd 0, tfn L hd 1, tfn L hd 2, tfn L hd 3, tfn L hd 4, tfn L hd 5, tfn L hd 6, tfn L hd 7, tfn L hd 8, tfn L hd 9, tfn L hd 10, tfn L hd 11, tfn L hd 12, tfn L hd 13, tfn L hd 14, tfn L hd 15, tfn L hd 16, tfn L hd 17, tfn L hd 18, tfn L hd 19, tfn L hd 20, tfn L hd 21, tfn L hd 22, tfn L hd 23, tfn L hd 24, tfn L hd 25, tfn L hd 26, tfn L hd 27, tfn L hd 28, tfn L hd 29, tfn L hd 30, tfn L hd 31, tfn L hd 32, tfn L hd 33, tfn L hd 34, tfn L hd 35, tfn L hd 36]
def iT (L : List Nat) (hd : Int) (h : zH) : zH := zup (gA L h) 1000 (.inr (0, fsL L hd))
theorem gA_n {L : List Nat} {h : zH} {f : Nat} (hf : h (1001 + f) = none) (hL : L.contains f = false) : gA L h (1001 + f) = none := by
  unfold gA
  rw [if_neg (by rw [show 1001 + f - 1001 = f by omega, hL]; simp)]
  exact hf
theorem gA_s {L : List Nat} {h : zH} {f : Nat} {a b : zC} : zup (zup (zup (gA L h) 1000 a) (1001 + f) (tZ f)) 1000 b = zup (gA (f :: L) h) 1000 b := by
  funext m
  by_cases e : m = 1000
  · subst e; rw [zup_at, zup_at]
  · rw [zup_ne e, zup_ne e]
    by_cases e2 : m = 1001 + f
    · subst e2
      rw [zup_at]
      unfold gA
      rw [if_pos ⟨by omega, by rw [show 1001 + f - 1001 = f by omega]; simp⟩, show 1001 + f - 1001 = f by omega]
    · rw [zup_ne e2, zup_ne e]
      unfold gA
      by_cases q : 1001 ≤ m ∧ L.contains (m - 1001) = true
      · rw [if_pos q, if_pos ⟨q.1, by rw [List.contains_cons, q.2]; simp⟩]
      · rw [if_neg q, if_neg (fun z => q ⟨z.1, by
          have z2 := z.2
          rw [List.contains_cons] at z2
          simp only [Bool.or_eq_true, beq_iff_eq] at z2
          rcases z2 with z2 | z2
          · omega
          · exact z2⟩)]
theorem tZ_e {f n : Nat} {ty : Nat} (h1 : tty f = ty) (h2 : tlen f = n) : (.inl (ty, n, .inl fun _ => 0) : zC) = tZ f := by unfold tZ; rw [h1, h2]

theorem tw_init {h : zH} (hf : ∀ f, f < 37 → h (1001 + f) = none) (h38 : h 1000 = some (.inr (0, fsL [] 0))) : zMet yX4_init (ws_ yX4_init cX4_init 1 none) 2 [.ref 1000] h (zVd (zup (gA [36, 29, 28, 27, 26, 25, 24, 23, 22, 20, 19, 18, 16, 13, 12, 11, 8, 6, 4, 1, 0] h) 1000 (.inr (0, fsL [36, 29, 28, 27, 26, 25, 24, 23, 22, 20, 19, 18, 16, 13, 12, 11, 8, 6, 4, 1, 0] (-1))))) 21 1317 := by
  refine zMet.of (by decide) (Nat.le_of_ble_eq_true rfl) fun X K => ?_
  have e0 : h = iT [] 0 h := by
    unfold iT gA
    funext m
    by_cases e : m = 1000
    · subst e; rw [zup_at]; exact h38
    · rw [zup_ne e, if_neg (by simp)]
  refine zW.heap e0 ?_
  refine z_aload_n K dX4_init_0 rfl rfl rfl ?_
  refine z_objInit K q1791 (by omega) (Nat.le_of_ble_eq_true rfl) dX4_init_1 ?_
  refine z_aload_n K dX4_init_4 rfl rfl rfl ?_
  refine j_sipush K dX4_init_5 (by decide +kernel) ?_
  refine z_newi K (1001 + 0) (by omega) (by omega) ((zup_ne (by decide)).trans (gA_n (hf _ (by decide)) (by decide))) (by omega) (by omega) (by omega) dX4_init_8 ?_
  rw [show ((203 : Int)).toNat = 203 from rfl, tZ_e (f := 0) (show tty 0 = 0 from rfl) (show tlen 0 = 203 from rfl)]
  refine z_putE K fd_X4_9_0 (by first | exact ⟨_, rfl, Or.inl rfl⟩ | exact ⟨_, rfl, Or.inr ⟨rfl, rfl, rfl⟩⟩) ((zup_ne (by decide)).trans (zup_at _ _ _)) (by omega) (Nat.le_of_ble_eq_true rfl) (zf_a) dX4_init_10 ((gA_s : zup (zup (iT [] 0 h) (1001 + 0) (tZ 0)) 1000 (.inr (0, (fsL [] 0).set 0 (.ref (1001 + 0)))) = iT [0] 0 h)) ?_
  refine z_aload_n K dX4_init_13 rfl rfl rfl ?_
  refine j_sipush K dX4_init_14 (by decide +kernel) ?_
  refine z_newi K (1001 + 1) (by omega) (by omega) ((zup_ne (by decide)).trans (gA_n (hf _ (by decide)) (by decide))) (by omega) (by omega) (by omega) dX4_init_17 ?_
  rw [show ((203 : Int)).toNat = 203 from rfl, tZ_e (f := 1) (show tty 1 = 0 from rfl) (show tlen 1 = 203 from rfl)]
  refine z_putE K fd_X4_13_0 (by first | exact ⟨_, rfl, Or.inl rfl⟩ | exact ⟨_, rfl, Or.inr ⟨rfl, rfl, rfl⟩⟩) ((zup_ne (by decide)).trans (zup_at _ _ _)) (by omega) (Nat.le_of_ble_eq_true rfl) (zf_a) dX4_init_19 ((gA_s : zup (zup (iT [0] 0 h) (1001 + 1) (tZ 1)) 1000 (.inr (0, (fsL [0] 0).set 1 (.ref (1001 + 1)))) = iT [1, 0] 0 h)) ?_
  refine z_aload_n K dX4_init_22 rfl rfl rfl ?_
  refine j_bipush K dX4_init_23 (by decide +kernel) ?_
  refine z_newc K (1001 + 4) (by omega) (by omega) ((zup_ne (by decide)).trans (gA_n (hf _ (by decide)) (by decide))) (by omega) (by omega) (by omega) dX4_init_25 ?_
  rw [show ((80 : Int)).toNat = 80 from rfl, tZ_e (f := 4) (show tty 4 = 3 from rfl) (show tlen 4 = 80 from rfl)]
  refine z_putE K fd_X4_16_0 (by first | exact ⟨_, rfl, Or.inl rfl⟩ | exact ⟨_, rfl, Or.inr ⟨rfl, rfl, rfl⟩⟩) ((zup_ne (by decide)).trans (zup_at _ _ _)) (by omega) (Nat.le_of_ble_eq_true rfl) (zf_a) dX4_init_27 ((gA_s : zup (zup (iT [1, 0] 0 h) (1001 + 4) (tZ 4)) 1000 (.inr (0, (fsL [1, 0] 0).set 4 (.ref (1001 + 4)))) = iT [4, 1, 0] 0 h)) ?_
  refine z_aload_n K dX4_init_30 rfl rfl rfl ?_
  refine j_iconst K dX4_init_31 ?_
  refine z_newi K (1001 + 6) (by omega) (by omega) ((zup_ne (by decide)).trans (gA_n (hf _ (by decide)) (by decide))) (by omega) (by omega) (by omega) dX4_init_32 ?_
  rw [show ((5 : Int)).toNat = 5 from rfl, tZ_e (f := 6) (show tty 6 = 0 from rfl) (show tlen 6 = 5 from rfl)]
  refine z_putE K fd_X4_20_0 (by first | exact ⟨_, rfl, Or.inl rfl⟩ | exact ⟨_, rfl, Or.inr ⟨rfl, rfl, rfl⟩⟩) ((zup_ne (by decide)).trans (zup_at _ _ _)) (by omega) (Nat.le_of_ble_eq_true rfl) (zf_a) dX4_init_34 ((gA_s : zup (zup (iT [4, 1, 0] 0 h) (1001 + 6) (tZ 6)) 1000 (.inr (0, (fsL [4, 1, 0] 0).set 6 (.ref (1001 + 6)))) = iT [6, 4, 1, 0] 0 h)) ?_
  refine z_aload_n K dX4_init_37 rfl rfl rfl ?_
  refine j_iconst K dX4_init_38 ?_
  refine z_newi K (1001 + 8) (by omega) (by omega) ((zup_ne (by decide)).trans (gA_n (hf _ (by decide)) (by decide))) (by omega) (by omega) (by omega) dX4_init_39 ?_
  rw [show ((4 : Int)).toNat = 4 from rfl, tZ_e (f := 8) (show tty 8 = 0 from rfl) (show tlen 8 = 4 from rfl)]
  refine z_putE K fd_X4_23_0 (by first | exact ⟨_, rfl, Or.inl rfl⟩ | exact ⟨_, rfl, Or.inr ⟨rfl, rfl, rfl⟩⟩) ((zup_ne (by decide)).trans (zup_at _ _ _)) (by omega) (Nat.le_of_ble_eq_true rfl) (zf_a) dX4_init_41 ((gA_s : zup (zup (iT [6, 4, 1, 0] 0 h) (1001 + 8) (tZ 8)) 1000 (.inr (0, (fsL [6, 4, 1, 0] 0).set 8 (.ref (1001 + 8)))) = iT [8, 6, 4, 1, 0] 0 h)) ?_
  refine z_aload_n K dX4_init_44 rfl rfl rfl ?_
  refine j_bipush K dX4_init_45 (by decide +kernel) ?_
  refine z_newi K (1001 + 11) (by omega) (by omega) ((zup_ne (by decide)).trans (gA_n (hf _ (by decide)) (by decide))) (by omega) (by omega) (by omega) dX4_init_47 ?_
  rw [show ((20 : Int)).toNat = 20 from rfl, tZ_e (f := 11) (show tty 11 = 0 from rfl) (show tlen 11 = 20 from rfl)]
  refine z_putE K fd_X4_26_0 (by first | exact ⟨_, rfl, Or.inl rfl⟩ | exact ⟨_, rfl, Or.inr ⟨rfl, rfl, rfl⟩⟩) ((zup_ne (by decide)).trans (zup_at _ _ _)) (by omega) (Nat.le_of_ble_eq_true rfl) (zf_a) dX4_init_49 ((gA_s : zup (zup (iT [8, 6, 4, 1, 0] 0 h) (1001 + 11) (tZ 11)) 1000 (.inr (0, (fsL [8, 6, 4, 1, 0] 0).set 11 (.ref (1001 + 11)))) = iT [11, 8, 6, 4, 1, 0] 0 h)) ?_
  refine z_aload_n K dX4_init_52 rfl rfl rfl ?_
  refine j_bipush K dX4_init_53 (by decide +kernel) ?_
  refine z_newi K (1001 + 12) (by omega) (by omega) ((zup_ne (by decide)).trans (gA_n (hf _ (by decide)) (by decide))) (by omega) (by omega) (by omega) dX4_init_55 ?_
  rw [show ((20 : Int)).toNat = 20 from rfl, tZ_e (f := 12) (show tty 12 = 0 from rfl) (show tlen 12 = 20 from rfl)]
  refine z_putE K fd_X4_29_0 (by first | exact ⟨_, rfl, Or.inl rfl⟩ | exact ⟨_, rfl, Or.inr ⟨rfl, rfl, rfl⟩⟩) ((zup_ne (by decide)).trans (zup_at _ _ _)) (by omega) (Nat.le_of_ble_eq_true rfl) (zf_a) dX4_init_57 ((gA_s : zup (zup (iT [11, 8, 6, 4, 1, 0] 0 h) (1001 + 12) (tZ 12)) 1000 (.inr (0, (fsL [11, 8, 6, 4, 1, 0] 0).set 12 (.ref (1001 + 12)))) = iT [12, 11, 8, 6, 4, 1, 0] 0 h)) ?_
  refine z_aload_n K dX4_init_60 rfl rfl rfl ?_
  refine j_iconst K dX4_init_61 ?_
  refine z_newz K (1001 + 13) (by omega) (by omega) ((zup_ne (by decide)).trans (gA_n (hf _ (by decide)) (by decide))) (by omega) (by omega) (by omega) dX4_init_62 ?_
  rw [show ((4 : Int)).toNat = 4 from rfl, tZ_e (f := 13) (show tty 13 = 2 from rfl) (show tlen 13 = 4 from rfl)]
  refine z_putE K fd_X4_32_0 (by first | exact ⟨_, rfl, Or.inl rfl⟩ | exact ⟨_, rfl, Or.inr ⟨rfl, rfl, rfl⟩⟩) ((zup_ne (by decide)).trans (zup_at _ _ _)) (by omega) (Nat.le_of_ble_eq_true rfl) (zf_a) dX4_init_64 ((gA_s : zup (zup (iT [12, 11, 8, 6, 4, 1, 0] 0 h) (1001 + 13) (tZ 13)) 1000 (.inr (0, (fsL [12, 11, 8, 6, 4, 1, 0] 0).set 13 (.ref (1001 + 13)))) = iT [13, 12, 11, 8, 6, 4, 1, 0] 0 h)) ?_
  refine z_aload_n K dX4_init_67 rfl rfl rfl ?_
  refine j_iconst K dX4_init_68 ?_
  refine z_putE K fd_X4_36_0 (by first | exact ⟨_, rfl, Or.inl rfl⟩ | exact ⟨_, rfl, Or.inr ⟨rfl, rfl, rfl⟩⟩) (zup_at _ _ _) (by omega) (Nat.le_of_ble_eq_true rfl) (zf_i) dX4_init_69 ((zup_zup : zup (iT [13, 12, 11, 8, 6, 4, 1, 0] 0 h) 1000 (.inr (0, (fsL [13, 12, 11, 8, 6, 4, 1, 0] 0).set 14 (.int (iI (-1))))) = iT [13, 12, 11, 8, 6, 4, 1, 0] (-1) h)) ?_
  refine z_aload_n K dX4_init_72 rfl rfl rfl ?_
  refine j_bipush K dX4_init_73 (by decide +kernel) ?_
  refine z_newi K (1001 + 16) (by omega) (by omega) ((zup_ne (by decide)).trans (gA_n (hf _ (by decide)) (by decide))) (by omega) (by omega) (by omega) dX4_init_75 ?_
  rw [show ((20 : Int)).toNat = 20 from rfl, tZ_e (f := 16) (show tty 16 = 0 from rfl) (show tlen 16 = 20 from rfl)]
  refine z_putE K fd_X4_40_0 (by first | exact ⟨_, rfl, Or.inl rfl⟩ | exact ⟨_, rfl, Or.inr ⟨rfl, rfl, rfl⟩⟩) ((zup_ne (by decide)).trans (zup_at _ _ _)) (by omega) (Nat.le_of_ble_eq_true rfl) (zf_a) dX4_init_77 ((gA_s : zup (zup (iT [13, 12, 11, 8, 6, 4, 1, 0] (-1) h) (1001 + 16) (tZ 16)) 1000 (.inr (0, (fsL [13, 12, 11, 8, 6, 4, 1, 0] (-1)).set 16 (.ref (1001 + 16)))) = iT [16, 13, 12, 11, 8, 6, 4, 1, 0] (-1) h)) ?_
  refine z_aload_n K dX4_init_80 rfl rfl rfl ?_
  refine j_iconst K dX4_init_81 ?_
  refine z_newi K (1001 + 18) (by omega) (by omega) ((zup_ne (by decide)).trans (gA_n (hf _ (by decide)) (by decide))) (by omega) (by omega) (by omega) dX4_init_82 ?_
  rw [show ((5 : Int)).toNat = 5 from rfl, tZ_e (f := 18) (show tty 18 = 0 from rfl) (show tlen 18 = 5 from rfl)]
  refine z_putE K fd_X4_43_0 (by first | exact ⟨_, rfl, Or.inl rfl⟩ | exact ⟨_, rfl, Or.inr ⟨rfl, rfl, rfl⟩⟩) ((zup_ne (by decide)).trans (zup_at _ _ _)) (by omega) (Nat.le_of_ble_eq_true rfl) (zf_a) dX4_init_84 ((gA_s : zup (zup (iT [16, 13, 12, 11, 8, 6, 4, 1, 0] (-1) h) (1001 + 18) (tZ 18)) 1000 (.inr (0, (fsL [16, 13, 12, 11, 8, 6, 4, 1, 0] (-1)).set 18 (.ref (1001 + 18)))) = iT [18, 16, 13, 12, 11, 8, 6, 4, 1, 0] (-1) h)) ?_
  refine z_aload_n K dX4_init_87 rfl rfl rfl ?_
  refine j_bipush K dX4_init_88 (by decide +kernel) ?_
  refine z_newi K (1001 + 19) (by omega) (by omega) ((zup_ne (by decide)).trans (gA_n (hf _ (by decide)) (by decide))) (by omega) (by omega) (by omega) dX4_init_90 ?_
  rw [show ((20 : Int)).toNat = 20 from rfl, tZ_e (f := 19) (show tty 19 = 0 from rfl) (show tlen 19 = 20 from rfl)]
  refine z_putE K fd_X4_46_0 (by first | exact ⟨_, rfl, Or.inl rfl⟩ | exact ⟨_, rfl, Or.inr ⟨rfl, rfl, rfl⟩⟩) ((zup_ne (by decide)).trans (zup_at _ _ _)) (by omega) (Nat.le_of_ble_eq_true rfl) (zf_a) dX4_init_92 ((gA_s : zup (zup (iT [18, 16, 13, 12, 11, 8, 6, 4, 1, 0] (-1) h) (1001 + 19) (tZ 19)) 1000 (.inr (0, (fsL [18, 16, 13, 12, 11, 8, 6, 4, 1, 0] (-1)).set 19 (.ref (1001 + 19)))) = iT [19, 18, 16, 13, 12, 11, 8, 6, 4, 1, 0] (-1) h)) ?_
  refine z_aload_n K dX4_init_95 rfl rfl rfl ?_
  refine j_iconst K dX4_init_96 ?_
  refine z_newi K (1001 + 20) (by omega) (by omega) ((zup_ne (by decide)).trans (gA_n (hf _ (by decide)) (by decide))) (by omega) (by omega) (by omega) dX4_init_97 ?_
  rw [show ((5 : Int)).toNat = 5 from rfl, tZ_e (f := 20) (show tty 20 = 0 from rfl) (show tlen 20 = 5 from rfl)]
  refine z_putE K fd_X4_49_0 (by first | exact ⟨_, rfl, Or.inl rfl⟩ | exact ⟨_, rfl, Or.inr ⟨rfl, rfl, rfl⟩⟩) ((zup_ne (by decide)).trans (zup_at _ _ _)) (by omega) (Nat.le_of_ble_eq_true rfl) (zf_a) dX4_init_99 ((gA_s : zup (zup (iT [19, 18, 16, 13, 12, 11, 8, 6, 4, 1, 0] (-1) h) (1001 + 20) (tZ 20)) 1000 (.inr (0, (fsL [19, 18, 16, 13, 12, 11, 8, 6, 4, 1, 0] (-1)).set 20 (.ref (1001 + 20)))) = iT [20, 19, 18, 16, 13, 12, 11, 8, 6, 4, 1, 0] (-1) h)) ?_
  refine z_aload_n K dX4_init_102 rfl rfl rfl ?_
  refine j_bipush K dX4_init_103 (by decide +kernel) ?_
  refine z_newz K (1001 + 22) (by omega) (by omega) ((zup_ne (by decide)).trans (gA_n (hf _ (by decide)) (by decide))) (by omega) (by omega) (by omega) dX4_init_105 ?_
  rw [show ((20 : Int)).toNat = 20 from rfl, tZ_e (f := 22) (show tty 22 = 2 from rfl) (show tlen 22 = 20 from rfl)]
  refine z_putE K fd_X4_52_0 (by first | exact ⟨_, rfl, Or.inl rfl⟩ | exact ⟨_, rfl, Or.inr ⟨rfl, rfl, rfl⟩⟩) ((zup_ne (by decide)).trans (zup_at _ _ _)) (by omega) (Nat.le_of_ble_eq_true rfl) (zf_a) dX4_init_107 ((gA_s : zup (zup (iT [20, 19, 18, 16, 13, 12, 11, 8, 6, 4, 1, 0] (-1) h) (1001 + 22) (tZ 22)) 1000 (.inr (0, (fsL [20, 19, 18, 16, 13, 12, 11, 8, 6, 4, 1, 0] (-1)).set 22 (.ref (1001 + 22)))) = iT [22, 20, 19, 18, 16, 13, 12, 11, 8, 6, 4, 1, 0] (-1) h)) ?_
  refine z_aload_n K dX4_init_110 rfl rfl rfl ?_
  refine j_iconst K dX4_init_111 ?_
  refine z_newi K (1001 + 23) (by omega) (by omega) ((zup_ne (by decide)).trans (gA_n (hf _ (by decide)) (by decide))) (by omega) (by omega) (by omega) dX4_init_112 ?_
  rw [show ((5 : Int)).toNat = 5 from rfl, tZ_e (f := 23) (show tty 23 = 0 from rfl) (show tlen 23 = 5 from rfl)]
  refine z_putE K fd_X4_55_0 (by first | exact ⟨_, rfl, Or.inl rfl⟩ | exact ⟨_, rfl, Or.inr ⟨rfl, rfl, rfl⟩⟩) ((zup_ne (by decide)).trans (zup_at _ _ _)) (by omega) (Nat.le_of_ble_eq_true rfl) (zf_a) dX4_init_114 ((gA_s : zup (zup (iT [22, 20, 19, 18, 16, 13, 12, 11, 8, 6, 4, 1, 0] (-1) h) (1001 + 23) (tZ 23)) 1000 (.inr (0, (fsL [22, 20, 19, 18, 16, 13, 12, 11, 8, 6, 4, 1, 0] (-1)).set 23 (.ref (1001 + 23)))) = iT [23, 22, 20, 19, 18, 16, 13, 12, 11, 8, 6, 4, 1, 0] (-1) h)) ?_
  refine z_aload_n K dX4_init_117 rfl rfl rfl ?_
  refine j_sipush K dX4_init_118 (by decide +kernel) ?_
  refine z_newi K (1001 + 24) (by omega) (by omega) ((zup_ne (by decide)).trans (gA_n (hf _ (by decide)) (by decide))) (by omega) (by omega) (by omega) dX4_init_121 ?_
  rw [show ((400 : Int)).toNat = 400 from rfl, tZ_e (f := 24) (show tty 24 = 0 from rfl) (show tlen 24 = 400 from rfl)]
  refine z_putE K fd_X4_58_0 (by first | exact ⟨_, rfl, Or.inl rfl⟩ | exact ⟨_, rfl, Or.inr ⟨rfl, rfl, rfl⟩⟩) ((zup_ne (by decide)).trans (zup_at _ _ _)) (by omega) (Nat.le_of_ble_eq_true rfl) (zf_a) dX4_init_123 ((gA_s : zup (zup (iT [23, 22, 20, 19, 18, 16, 13, 12, 11, 8, 6, 4, 1, 0] (-1) h) (1001 + 24) (tZ 24)) 1000 (.inr (0, (fsL [23, 22, 20, 19, 18, 16, 13, 12, 11, 8, 6, 4, 1, 0] (-1)).set 24 (.ref (1001 + 24)))) = iT [24, 23, 22, 20, 19, 18, 16, 13, 12, 11, 8, 6, 4, 1, 0] (-1) h)) ?_
  refine z_aload_n K dX4_init_126 rfl rfl rfl ?_
  refine j_bipush K dX4_init_127 (by decide +kernel) ?_
  refine z_newi K (1001 + 25) (by omega) (by omega) ((zup_ne (by decide)).trans (gA_n (hf _ (by decide)) (by decide))) (by omega) (by omega) (by omega) dX4_init_129 ?_
  rw [show ((20 : Int)).toNat = 20 from rfl, tZ_e (f := 25) (show tty 25 = 0 from rfl) (show tlen 25 = 20 from rfl)]
  refine z_putE K fd_X4_61_0 (by first | exact ⟨_, rfl, Or.inl rfl⟩ | exact ⟨_, rfl, Or.inr ⟨rfl, rfl, rfl⟩⟩) ((zup_ne (by decide)).trans (zup_at _ _ _)) (by omega) (Nat.le_of_ble_eq_true rfl) (zf_a) dX4_init_131 ((gA_s : zup (zup (iT [24, 23, 22, 20, 19, 18, 16, 13, 12, 11, 8, 6, 4, 1, 0] (-1) h) (1001 + 25) (tZ 25)) 1000 (.inr (0, (fsL [24, 23, 22, 20, 19, 18, 16, 13, 12, 11, 8, 6, 4, 1, 0] (-1)).set 25 (.ref (1001 + 25)))) = iT [25, 24, 23, 22, 20, 19, 18, 16, 13, 12, 11, 8, 6, 4, 1, 0] (-1) h)) ?_
  refine z_aload_n K dX4_init_134 rfl rfl rfl ?_
  refine j_bipush K dX4_init_135 (by decide +kernel) ?_
  refine z_newz K (1001 + 26) (by omega) (by omega) ((zup_ne (by decide)).trans (gA_n (hf _ (by decide)) (by decide))) (by omega) (by omega) (by omega) dX4_init_137 ?_
  rw [show ((20 : Int)).toNat = 20 from rfl, tZ_e (f := 26) (show tty 26 = 2 from rfl) (show tlen 26 = 20 from rfl)]
  refine z_putE K fd_X4_64_0 (by first | exact ⟨_, rfl, Or.inl rfl⟩ | exact ⟨_, rfl, Or.inr ⟨rfl, rfl, rfl⟩⟩) ((zup_ne (by decide)).trans (zup_at _ _ _)) (by omega) (Nat.le_of_ble_eq_true rfl) (zf_a) dX4_init_139 ((gA_s : zup (zup (iT [25, 24, 23, 22, 20, 19, 18, 16, 13, 12, 11, 8, 6, 4, 1, 0] (-1) h) (1001 + 26) (tZ 26)) 1000 (.inr (0, (fsL [25, 24, 23, 22, 20, 19, 18, 16, 13, 12, 11, 8, 6, 4, 1, 0] (-1)).set 26 (.ref (1001 + 26)))) = iT [26, 25, 24, 23, 22, 20, 19, 18, 16, 13, 12, 11, 8, 6, 4, 1, 0] (-1) h)) ?_
  refine z_aload_n K dX4_init_142 rfl rfl rfl ?_
  refine j_bipush K dX4_init_143 (by decide +kernel) ?_
  refine z_newi K (1001 + 27) (by omega) (by omega) ((zup_ne (by decide)).trans (gA_n (hf _ (by decide)) (by decide))) (by omega) (by omega) (by omega) dX4_init_145 ?_
  rw [show ((20 : Int)).toNat = 20 from rfl, tZ_e (f := 27) (show tty 27 = 0 from rfl) (show tlen 27 = 20 from rfl)]
  refine z_putE K fd_X4_67_0 (by first | exact ⟨_, rfl, Or.inl rfl⟩ | exact ⟨_, rfl, Or.inr ⟨rfl, rfl, rfl⟩⟩) ((zup_ne (by decide)).trans (zup_at _ _ _)) (by omega) (Nat.le_of_ble_eq_true rfl) (zf_a) dX4_init_147 ((gA_s : zup (zup (iT [26, 25, 24, 23, 22, 20, 19, 18, 16, 13, 12, 11, 8, 6, 4, 1, 0] (-1) h) (1001 + 27) (tZ 27)) 1000 (.inr (0, (fsL [26, 25, 24, 23, 22, 20, 19, 18, 16, 13, 12, 11, 8, 6, 4, 1, 0] (-1)).set 27 (.ref (1001 + 27)))) = iT [27, 26, 25, 24, 23, 22, 20, 19, 18, 16, 13, 12, 11, 8, 6, 4, 1, 0] (-1) h)) ?_
  refine z_aload_n K dX4_init_150 rfl rfl rfl ?_
  refine j_bipush K dX4_init_151 (by decide +kernel) ?_
  refine z_newi K (1001 + 28) (by omega) (by omega) ((zup_ne (by decide)).trans (gA_n (hf _ (by decide)) (by decide))) (by omega) (by omega) (by omega) dX4_init_153 ?_
  rw [show ((20 : Int)).toNat = 20 from rfl, tZ_e (f := 28) (show tty 28 = 0 from rfl) (show tlen 28 = 20 from rfl)]
  refine z_putE K fd_X4_70_0 (by first | exact ⟨_, rfl, Or.inl rfl⟩ | exact ⟨_, rfl, Or.inr ⟨rfl, rfl, rfl⟩⟩) ((zup_ne (by decide)).trans (zup_at _ _ _)) (by omega) (Nat.le_of_ble_eq_true rfl) (zf_a) dX4_init_155 ((gA_s : zup (zup (iT [27, 26, 25, 24, 23, 22, 20, 19, 18, 16, 13, 12, 11, 8, 6, 4, 1, 0] (-1) h) (1001 + 28) (tZ 28)) 1000 (.inr (0, (fsL [27, 26, 25, 24, 23, 22, 20, 19, 18, 16, 13, 12, 11, 8, 6, 4, 1, 0] (-1)).set 28 (.ref (1001 + 28)))) = iT [28, 27, 26, 25, 24, 23, 22, 20, 19, 18, 16, 13, 12, 11, 8, 6, 4, 1, 0] (-1) h)) ?_
  refine z_aload_n K dX4_init_158 rfl rfl rfl ?_
  refine j_bipush K dX4_init_159 (by decide +kernel) ?_
  refine z_newi K (1001 + 29) (by omega) (by omega) ((zup_ne (by decide)).trans (gA_n (hf _ (by decide)) (by decide))) (by omega) (by omega) (by omega) dX4_init_161 ?_
  rw [show ((20 : Int)).toNat = 20 from rfl, tZ_e (f := 29) (show tty 29 = 0 from rfl) (show tlen 29 = 20 from rfl)]
  refine z_putE K fd_X4_73_0 (by first | exact ⟨_, rfl, Or.inl rfl⟩ | exact ⟨_, rfl, Or.inr ⟨rfl, rfl, rfl⟩⟩) ((zup_ne (by decide)).trans (zup_at _ _ _)) (by omega) (Nat.le_of_ble_eq_true rfl) (zf_a) dX4_init_163 ((gA_s : zup (zup (iT [28, 27, 26, 25, 24, 23, 22, 20, 19, 18, 16, 13, 12, 11, 8, 6, 4, 1, 0] (-1) h) (1001 + 29) (tZ 29)) 1000 (.inr (0, (fsL [28, 27, 26, 25, 24, 23, 22, 20, 19, 18, 16, 13, 12, 11, 8, 6, 4, 1, 0] (-1)).set 29 (.ref (1001 + 29)))) = iT [29, 28, 27, 26, 25, 24, 23, 22, 20, 19, 18, 16, 13, 12, 11, 8, 6, 4, 1, 0] (-1) h)) ?_
  refine z_aload_n K dX4_init_166 rfl rfl rfl ?_
  refine j_sipush K dX4_init_167 (by decide +kernel) ?_
  refine z_newi K (1001 + 36) (by omega) (by omega) ((zup_ne (by decide)).trans (gA_n (hf _ (by decide)) (by decide))) (by omega) (by omega) (by omega) dX4_init_170 ?_
  rw [show ((203 : Int)).toNat = 203 from rfl, tZ_e (f := 36) (show tty 36 = 0 from rfl) (show tlen 36 = 203 from rfl)]
  refine z_putE K fd_X4_76_0 (by first | exact ⟨_, rfl, Or.inl rfl⟩ | exact ⟨_, rfl, Or.inr ⟨rfl, rfl, rfl⟩⟩) ((zup_ne (by decide)).trans (zup_at _ _ _)) (by omega) (Nat.le_of_ble_eq_true rfl) (zf_a) dX4_init_172 ((gA_s : zup (zup (iT [29, 28, 27, 26, 25, 24, 23, 22, 20, 19, 18, 16, 13, 12, 11, 8, 6, 4, 1, 0] (-1) h) (1001 + 36) (tZ 36)) 1000 (.inr (0, (fsL [29, 28, 27, 26, 25, 24, 23, 22, 20, 19, 18, 16, 13, 12, 11, 8, 6, 4, 1, 0] (-1)).set 36 (.ref (1001 + 36)))) = iT [36, 29, 28, 27, 26, 25, 24, 23, 22, 20, 19, 18, 16, 13, 12, 11, 8, 6, 4, 1, 0] (-1) h)) ?_
  exact z_vret K (by omega) (by omega) (⟨rfl, rfl⟩) dX4_init_175

