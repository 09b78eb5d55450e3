/-! ===== StringBuilder: append, length, <init> ===== -/
/-- a StringBuilder at T with the chars t -/
def SBp (h : zH) (T V N : Nat) (c : Int) (nn : Nat) (f t : Nat → Int) : Prop := h T = some (oSB V c nn) ∧ h V = some (aB N f) ∧ tcs c N f t nn ∧ (c = 0 ∨ N % 2 = 0) ∧ ((c = 0 ∧ N ≤ 2 * nn + 16) ∨ (c = 1 ∧ N ≤ 4 * nn + 40)) ∧ T ≠ V ∧ 1000 ≤ V
theorem SBp.c01 {h : zH} {T V N nn : Nat} {c : Int} {f t : Nat → Int} (H : SBp h T V N c nn f t) : c = 0 ∨ c = 1 := by rcases H.2.2.1.2 with z | z <;> omega
theorem jL_can {h : zH} {c : Int} (h0 : 0 ≤ c) (h1 : c < 65536) : zMet yJ22_canEncode (ws_ yJ22_canEncode cJ22_canEncode 1 (some .boolean)) 1 [.int (iI c)] h (zRet (.int (iI (bI (c < 256)))) h) 0 0 := by
  refine zMet.of (by decide) (Nat.le_of_ble_eq_true rfl) fun X K => ?_
  refine z_iload_n K dJ22_canEncode_0 rfl rfl ?_
  refine j_sipush K dJ22_canEncode_1 (by decide +kernel) ?_
  refine j_icmp_gt (tgt := 11) K dJ22_canEncode_4 rfl (by omega) (by omega) (fun c_4 => ?_) (fun c_4 => ?_)
  · have e : bI (c < 256) = 0 := if_neg (by omega)
    refine j_iconst K dJ22_canEncode_11 ?_
    exact z_zret K (iI_b (by omega)) (by omega) (by omega) (⟨by rw [e], rfl⟩) dJ22_canEncode_12
  · have e : bI (c < 256) = 1 := if_pos (by omega)
    refine j_iconst K dJ22_canEncode_7 ?_
    refine z_goto (tgt := 12) K dJ22_canEncode_8 rfl ?_
    exact z_zret K (iI_b (by omega)) (by omega) (by omega) (⟨by rw [e], rfl⟩) dJ22_canEncode_12
theorem sb_ens2 {h : zH} {T V N a nn : Nat} {f t : Nat → Int} {c : Int} (H : SBp h T V N c nn f t) (T8 : 1000 ≤ T) (hnn : nn < 80) (hf : h a = none) (a8 : 1000 ≤ a) :
    zMet yJ6_ensureCapacityInternal (ws_ yJ6_ensureCapacityInternal cJ6_ensureCapacityInternal 3 none) 4 [.ref T, .int (iI (nn + 1))] h (fun o h' => o = .inl none ∧ ∃ V' N' f', SBp h' T V' N' c nn f' t ∧ (V' = V ∨ V' = a) ∧ (∀ m, m ≠ T → m ≠ a → h' m = h m) ∧ ((c = 0 ∧ nn + 1 ≤ N') ∨ (c = 1 ∧ 2 * nn + 2 ≤ N'))) 1 810 := by
  obtain ⟨hT, hV, ht, hev, hN, hTV, V8⟩ := H
  have haV : V ≠ a := fun e => by rw [e, hf] at hV; cases hV
  have haT : T ≠ a := fun e => by rw [e, hf] at hT; cases hT
  refine (sb_ens hT hV T8 hTV (by omega) ht hev hf a8).mono ?_
  rintro o h' ⟨e, V', N', f', rfl, hv, ht', hc'⟩
  refine ⟨e, V', N', f', ?_, ?_, ?_, ?_⟩
  · rcases hv with ⟨rfl, rfl, rfl⟩ | ⟨rfl, hN', hN9⟩
    · rw [if_pos rfl]
      exact ⟨zup_at _ _ _, (zup_ne hTV.symm).trans hV, ht', hev, hN, hTV, V8⟩
    · rw [if_neg haV.symm]
      exact ⟨zup_at _ _ _, (zup_ne haT.symm).trans (zup_at _ _ _), ht', by omega, by omega, haT, a8⟩
  · rcases hv with hv | hv
    · exact Or.inl hv.1
    · exact Or.inr hv.1
  · intro m h1 h2
    rw [zup_ne h1]
    rcases hv with hv | hv
    · rw [if_pos hv.1]
    · rw [if_neg (by rw [hv.1]; exact haV.symm), zup_ne (by rw [hv.1]; exact h2)]
  · omega
theorem tcs.app2 {N nn : Nat} {f t : Nat → Int} {ch : Int} (ht : tcs 1 N f t nn) (hr : 2 * nn + 2 ≤ N) (c0 : 0 ≤ ch) (c1 : ch < 65536) : tcs 1 N (sup (sup f (2 * (nn : Int)).toNat ch) (2 * (nn : Int) + 1).toNat (ch / 256)) (sup t nn ch) (nn + 1) := by
  rw [show (2 * (nn : Int)).toNat = 2 * nn by omega, show (2 * (nn : Int) + 1).toNat = 2 * nn + 1 by omega]
  have gf : ∀ i, i < nn → f (2 * i) = t i ∧ f (2 * i + 1) = t i / 256 := by
    rcases ht.2 with ⟨z, -⟩ | ⟨-, -, z⟩
    · cases z
    · exact z
  refine ⟨fun i hi => ?_, Or.inr ⟨rfl, by omega, fun i hi => ?_⟩⟩
  · by_cases e : i = nn
    · subst e; rw [sup_s]; exact ⟨c0, c1⟩
    · rw [sup_n e]; exact ht.1 i (by omega)
  · by_cases e : i = nn
    · subst e
      rw [sup_n (by omega), sup_s, sup_s, sup_s]
      exact ⟨rfl, rfl⟩
    · rw [sup_n (by omega), sup_n (by omega), sup_n e, sup_n (by omega), sup_n (by omega)]
      exact gf i (by omega)
theorem tcs.app1 {N nn : Nat} {f t : Nat → Int} {ch : Int} (ht : tcs 0 N f t nn) (hr : nn + 1 ≤ N) (c0 : 0 ≤ ch) (c1 : ch < 256) : tcs 0 N (sup f (nn : Int).toNat ch) (sup t nn ch) (nn + 1) := by
  rw [show (nn : Int).toNat = nn by omega]
  have gf : ∀ i, i < nn → t i < 256 ∧ f i = t i := by
    rcases ht.2 with ⟨-, -, z⟩ | ⟨z, -⟩
    · exact z
    · cases z
  refine ⟨fun i hi => ?_, Or.inl ⟨rfl, by omega, fun i hi => ?_⟩⟩
  · by_cases e : i = nn
    · subst e; rw [sup_s]; omega
    · rw [sup_n e]; exact ht.1 i (by omega)
  · by_cases e : i = nn
    · subst e
      rw [sup_s, sup_s]
      exact ⟨c1, rfl⟩
    · rw [sup_n e, sup_n e]
      exact gf i (by omega)
theorem sb_app {h : zH} {T V N a nn : Nat} {f t : Nat → Int} {c ch : Int} (hA : Am h) (H : SBp h T V N c nn f t) (T8 : 1000 ≤ T) (hnn : nn < 80) (hf : h a = none) (hf2 : h (a + 1) = none) (a8 : 1000 ≤ a) (c0 : 0 ≤ ch) (c1 : ch < 65536) :
    zMet yJ6_append (ws_ yJ6_append cJ6_append 2 (some (.object "java/lang/AbstractStringBuilder"))) 7 [.ref T, .int (iI ch)] h (fun o h' => o = .inl (some (.ref T)) ∧ ∃ V' N' c' f', SBp h' T V' N' c' (nn + 1) f' (sup t nn ch) ∧ (V' = V ∨ V' = a ∨ V' = a + 1) ∧ ∀ m, m ≠ T → m ≠ V → m ≠ a → m ≠ a + 1 → h' m = h m) 2 2500 := by
  have k1 := sb_ens2 H T8 hnn hf a8
  have hc9 := H.c01
  have haT : T ≠ a := fun e => by have := H.1; rw [e, hf] at this; cases this
  have haT2 : T ≠ a + 1 := fun e => by have := H.1; rw [e, hf2] at this; cases this
  have haV : V ≠ a := fun e => by have := H.2.1; rw [e, hf] at this; cases this
  have haV2 : V ≠ a + 1 := fun e => by have := H.2.1; rw [e, hf2] at this; cases this
  have hTn := H.1
  refine zMet.of (by decide) (Nat.le_of_ble_eq_true rfl) fun X K => ?_
  have tail : ∀ (h2 : zH) (V2 N2 : Nat) (f2 : Nat → Int) (k n : Nat), k ≤ 2 → n ≤ 2500 → Am h2 → SBp h2 T V2 N2 1 nn f2 t → 2 * nn + 2 ≤ N2 → (V2 = V ∨ V2 = a ∨ V2 = a + 1) → (∀ m, m ≠ T → m ≠ V → m ≠ a → m ≠ a + 1 → h2 m = h m) → ∀ env, zsub env [(0, .ref T), (1, .int (iI ch))] → zW X (fun o h' => o = .inl (some (.ref T)) ∧ ∃ V' N' c' f', SBp h' T V' N' c' (nn + 1) f' (sup t nn ch) ∧ (V' = V ∨ V' = a ∨ V' = a + 1) ∧ ∀ m, m ≠ T → m ≠ V → m ≠ a → m ≠ a + 1 → h' m = h m) h2 k n 56 env [] := by
    intro h2 V2 N2 f2 k n hk hn hA2 H2 hr2 hv2 hm2 env he
    refine zW.cut he ?_
    obtain ⟨gT, gV, gt, ge, gN, gTV, gV8⟩ := H2
    have k5 := jU_putS (h := zup h2 T (oSB V2 1 (nn + 1))) (V := V2) (N := N2) (f := f2) (i := nn) (c := ch) (hA2.up T8) ((zup_ne gTV.symm).trans gV) gV8 (by omega) (by omega) (by omega) c0 c1
    have qt := gt.app2 hr2 c0 c1
    refine z_aload_n K dJ6_append_56 rfl rfl rfl ?_
    refine z_get K fd_J6_15_19 (by first | exact gT | exact zup_at _ _ _) rfl dJ6_append_57 ?_
    refine z_aload_n K dJ6_append_60 rfl rfl rfl ?_
    refine z_dup K dJ6_append_61 rfl ?_
    refine z_get K fd_J6_79_19 (by first | exact gT | exact zup_at _ _ _) rfl dJ6_append_62 ?_
    refine z_dup_x1 K dJ6_append_65 rfl rfl ?_
    refine j_iconst K dJ6_append_66 ?_
    refine j_iadd K dJ6_append_67 ?_
    refine z_putE K fd_J6_79_19 ⟨_, rfl, Or.inl rfl⟩ (by first | exact gT | exact zup_at _ _ _) (by omega) (Nat.le_of_ble_eq_true rfl) (zf_i) dJ6_append_68 (rfl) ?_
    refine z_iload_n K dJ6_append_71 rfl rfl ?_
    refine z_callS K (k5) cS_J6_197 rfl rfl (by omega) (by omega) (by omega) (Nat.le_of_ble_eq_true rfl) dJ6_append_72 zvX (zvK ?_)
    refine z_aload_n K dJ6_append_75 rfl rfl rfl ?_
    exact z_aret K (by simp) rfl (by omega) (by omega) (⟨rfl, V2, N2, 1, _, ⟨(zup_ne gTV).trans (zup_at _ _ _), zup_at _ _ _, qt, ge, by omega, gTV, gV8⟩, hv2, fun m m1 m2 m3 m4 => (zup_ne (by rcases hv2 with z | z | z <;> (rw [z]; assumption))).trans ((zup_ne m1).trans (hm2 m m1 m2 m3 m4))⟩) dJ6_append_76
  have cont : ∀ (h1 : zH) (V1 N1 : Nat) (f1 : Nat → Int), SBp h1 T V1 N1 c nn f1 t → (V1 = V ∨ V1 = a) → (∀ m, m ≠ T → m ≠ a → h1 m = h m) → ((c = 0 ∧ nn + 1 ≤ N1) ∨ (c = 1 ∧ 2 * nn + 2 ≤ N1)) → ∀ env, zsub env [(0, .ref T), (1, .int (iI ch))] → zW X (fun o h' => o = .inl (some (.ref T)) ∧ ∃ V' N' c' f', SBp h' T V' N' c' (nn + 1) f' (sup t nn ch) ∧ (V' = V ∨ V' = a ∨ V' = a + 1) ∧ ∀ m, m ≠ T → m ≠ V → m ≠ a → m ≠ a + 1 → h' m = h m) h1 1 810 10 env [] := by
    intro h1 V1 N1 f1 H1 hv1 hm1 hr1 env he
    refine zW.cut he ?_
    have hA1 : Am h1 := hA.ext (N := 1000) (fun m hm => hm1 m (by omega) (by omega)) (by decide)
    have k2 := sb_isL H1.1 H1.c01
    have hm9 : ∀ m, m ≠ T → m ≠ V → m ≠ a → m ≠ a + 1 → h1 m = h m := fun m m1 m2 m3 m4 => hm1 m m1 m3
    have hv9 : V1 = V ∨ V1 = a ∨ V1 = a + 1 := by rcases hv1 with z | z <;> simp [z]
    have k4 := jL_can (h := h1) c0 c1
    rcases hc9 with rfl | rfl
    · have hr1 : nn + 1 ≤ N1 := by omega
      obtain ⟨gT, gV, gt, ge, gN, gTV, gV8⟩ := id H1
      by_cases hch : ch < 256
      · have qt := gt.app1 hr1 c0 hch
        refine z_aload_n K dJ6_append_10 rfl rfl rfl ?_
        refine z_callV K (k2) cV_J6_83_J7 (by first | exact gT | exact zup_at _ _ _) rfl rfl rfl (by omega) (by omega) (by omega) (Nat.le_of_ble_eq_true rfl) dJ6_append_11 zrX (zrK ?_)
        refine j_if_eq (tgt := 45) K dJ6_append_14 rfl (by omega) (fun c_14 => ?_) (fun c_14 => ?_)
        · exact absurd c_14 (by decide)
        · refine z_iload_n K dJ6_append_17 rfl rfl ?_
          refine z_callS K (k4) cS_J6_191 rfl rfl (by omega) (by omega) (by omega) (Nat.le_of_ble_eq_true rfl) dJ6_append_18 zrX (zrK ?_)
          refine j_if_eq (tgt := 45) K dJ6_append_21 rfl (b01r _) (fun c_21 => ?_) (fun c_21 => ?_)
          · rw [bI_eq] at c_21
            exact absurd hch c_21
          · refine z_aload_n K dJ6_append_24 rfl rfl rfl ?_
            refine z_get K fd_J6_15_19 (by first | exact gT | exact zup_at _ _ _) rfl dJ6_append_25 ?_
            refine z_aload_n K dJ6_append_28 rfl rfl rfl ?_
            refine z_dup K dJ6_append_29 rfl ?_
            refine z_get K fd_J6_79_19 (by first | exact gT | exact zup_at _ _ _) rfl dJ6_append_30 ?_
            refine z_dup_x1 K dJ6_append_33 rfl rfl ?_
            refine j_iconst K dJ6_append_34 ?_
            refine j_iadd K dJ6_append_35 ?_
            refine z_putE K fd_J6_79_19 ⟨_, rfl, Or.inl rfl⟩ (by first | exact gT | exact zup_at _ _ _) (by omega) (Nat.le_of_ble_eq_true rfl) (zf_i) dJ6_append_36 (rfl) ?_
            refine z_iload_n K dJ6_append_39 rfl rfl ?_
            refine z_i2b K dJ6_append_40 ?_
            rw [i2b_i]
            refine j_bstE K ((zup_ne gTV.symm).trans gV) gV8 (by omega) (by omega) dJ6_append_41 (rfl) ?_
            refine z_goto (tgt := 75) K dJ6_append_42 rfl ?_
            refine z_aload_n K dJ6_append_75 rfl rfl rfl ?_
            exact z_aret K (by simp) rfl (by omega) (by omega) (⟨rfl, V1, N1, 0, _, ⟨(zup_ne gTV).trans (zup_at _ _ _), zup_at _ _ _, qt, Or.inl rfl, by omega, gTV, gV8⟩, hv9, fun m m1 m2 m3 m4 => (zup_ne (by rcases hv1 with z | z <;> (rw [z]; assumption))).trans ((zup_ne m1).trans (hm9 m m1 m2 m3 m4))⟩) dJ6_append_76
      · have hfa : h1 (a + 1) = none := (hm1 (a + 1) haT2.symm (by omega)).trans hf2
        have k3 := sb_infl (a := a + 1) hA1 gT gV T8 (by omega) gt hfa (by omega)
        refine z_aload_n K dJ6_append_10 rfl rfl rfl ?_
        refine z_callV K (k2) cV_J6_83_J7 (gT) rfl rfl rfl (by omega) (by omega) (by omega) (Nat.le_of_ble_eq_true rfl) dJ6_append_11 zrX (zrK ?_)
        refine j_if_eq (tgt := 45) K dJ6_append_14 rfl (by omega) (fun c_14 => ?_) (fun c_14 => ?_)
        · exact absurd c_14 (by decide)
        · refine z_iload_n K dJ6_append_17 rfl rfl ?_
          refine z_callS K (k4) cS_J6_191 rfl rfl (by omega) (by omega) (by omega) (Nat.le_of_ble_eq_true rfl) dJ6_append_18 zrX (zrK ?_)
          refine j_if_eq (tgt := 45) K dJ6_append_21 rfl (b01r _) (fun c_21 => ?_) (fun c_21 => ?_)
          · refine z_aload_n K dJ6_append_45 rfl rfl rfl ?_
            refine z_callV K (k2) cV_J6_83_J7 (gT) rfl rfl rfl (by omega) (by omega) (by omega) (Nat.le_of_ble_eq_true rfl) dJ6_append_46 zrX (zrK ?_)
            refine j_if_eq (tgt := 56) K dJ6_append_49 rfl (by omega) (fun c_49 => ?_) (fun c_49 => ?_)
            · exact absurd c_49 (by decide)
            · refine z_aload_n K dJ6_append_52 rfl rfl rfl ?_
              refine z_callP K k3 cP_J6_195 gT rfl rfl rfl (by decide) (by omega) (by omega) (Nat.le_of_ble_eq_true rfl) dJ6_append_53 (fun _ _ ⟨e, _⟩ => nomatch e) ?_
              rintro _ _ ⟨ez, g2, rfl, ht2⟩
              cases ez
              exact tail _ (a + 1) (2 * N1) g2 _ _ (by omega) (by omega) ((hA1.up (by omega)).up T8) ⟨zup_at _ _ _, (zup_ne haT2.symm).trans (zup_at _ _ _), ht2, Or.inr (by omega), by omega, haT2, by omega⟩ (by omega) (Or.inr (Or.inr rfl)) (fun m m1 m2 m3 m4 => (zup_ne m1).trans ((zup_ne m4).trans (hm9 m m1 m2 m3 m4))) _ ⟨rfl, rfl, trivial⟩
          · rw [bI_ne] at c_21
            exact absurd c_21 hch
    · have hr1 : 2 * nn + 2 ≤ N1 := by omega
      have gT := H1.1
      refine z_aload_n K dJ6_append_10 rfl rfl rfl ?_
      refine z_callV K (k2) cV_J6_83_J7 (gT) rfl rfl rfl (by omega) (by omega) (by omega) (Nat.le_of_ble_eq_true rfl) dJ6_append_11 zrX (zrK ?_)
      refine j_if_eq (tgt := 45) K dJ6_append_14 rfl (by omega) (fun c_14 => ?_) (fun c_14 => ?_)
      · refine z_aload_n K dJ6_append_45 rfl rfl rfl ?_
        refine z_callV K (k2) cV_J6_83_J7 (gT) rfl rfl rfl (by omega) (by omega) (by omega) (Nat.le_of_ble_eq_true rfl) dJ6_append_46 zrX (zrK ?_)
        refine j_if_eq (tgt := 56) K dJ6_append_49 rfl (by omega) (fun c_49 => ?_) (fun c_49 => ?_)
        · exact tail _ V1 N1 f1 _ _ (by omega) (by omega) hA1 H1 hr1 hv9 hm9 _ ⟨rfl, rfl, trivial⟩
        · exact absurd rfl c_49
      · exact absurd rfl c_14
  refine z_aload_n K dJ6_append_0 rfl rfl rfl ?_
  refine z_aload_n K dJ6_append_1 rfl rfl rfl ?_
  refine z_get K fd_J6_79_19 (hTn) rfl dJ6_append_2 ?_
  refine j_iconst K dJ6_append_5 ?_
  refine j_iadd K dJ6_append_6 ?_
  refine z_callP K k1 cP_J6_100 hTn rfl rfl rfl (by decide) (by omega) (by omega) (Nat.le_of_ble_eq_true rfl) dJ6_append_7 (fun _ _ ⟨e, _⟩ => nomatch e) ?_
  rintro _ _ ⟨ez, V1, N1, f1, H1, hv1, hm1, hr1⟩
  cases ez
  exact cont _ V1 N1 f1 H1 hv1 hm1 hr1 _ ⟨rfl, rfl, trivial⟩
theorem sb_append {h : zH} {T V N a nn : Nat} {f t : Nat → Int} {c ch : Int} (hA : Am h) (H : SBp h T V N c nn f t) (T8 : 1000 ≤ T) (hnn : nn < 80) (hf : h a = none) (hf2 : h (a + 1) = none) (a8 : 1000 ≤ a) (c0 : 0 ≤ ch) (c1 : ch < 65536) :
    zMet yJ7_append (ws_ yJ7_append cJ7_append 2 (some (.object "java/lang/StringBuilder"))) 8 [.ref T, .int (iI ch)] h (fun o h' => o = .inl (some (.ref T)) ∧ ∃ V' N' c' f', SBp h' T V' N' c' (nn + 1) f' (sup t nn ch) ∧ (V' = V ∨ V' = a ∨ V' = a + 1) ∧ ∀ m, m ≠ T → m ≠ V → m ≠ a → m ≠ a + 1 → h' m = h m) 2 2500 := by
  have k1 := sb_app hA H T8 hnn hf hf2 a8 c0 c1
  have hTn := H.1
  refine zMet.of (by decide) (Nat.le_of_ble_eq_true rfl) fun X K => ?_
  refine z_aload_n K dJ7_append_0 rfl rfl rfl ?_
  refine z_iload_n K dJ7_append_1 rfl rfl ?_
  refine z_callU K k1 cE_J7_50 hTn rfl rfl rfl (by decide) (by omega) (by omega) (Nat.le_of_ble_eq_true rfl) dJ7_append_2 (fun _ _ ⟨e, _⟩ => nomatch e) ?_
  rintro _ _ ⟨ez, hp⟩
  cases ez
  refine z_pop K dJ7_append_5 rfl ?_
  refine z_aload_n K dJ7_append_6 rfl rfl rfl ?_
  exact z_aret K (by simp) rfl (by omega) (by omega) (⟨rfl, hp⟩) dJ7_append_7
theorem sb_len6 {h : zH} {T V : Nat} {c n : Int} (hT : h T = some (oSB V c n)) : zMet yJ6_length (ws_ yJ6_length cJ6_length 1 (some .int)) 1 [.ref T] h (zRet (.int (iI n)) h) 0 0 := by
  refine zMet.of (by decide) (Nat.le_of_ble_eq_true rfl) fun X K => ?_
  refine z_aload_n K dJ6_length_0 rfl rfl rfl ?_
  refine z_get K fd_J6_79_19 (hT) rfl dJ6_length_1 ?_
  exact z_iret K (by omega) (by omega) (⟨rfl, rfl⟩) dJ6_length_4
theorem sb_length {h : zH} {T V : Nat} {c n : Int} (hT : h T = some (oSB V c n)) : zMet yJ7_length (ws_ yJ7_length cJ7_length 1 (some .int)) 2 [.ref T] h (zRet (.int (iI n)) h) 0 0 := by
  have k1 := sb_len6 hT
  refine zMet.of (by decide) (Nat.le_of_ble_eq_true rfl) fun X K => ?_
  refine z_aload_n K dJ7_length_0 rfl rfl rfl ?_
  refine z_callU K k1 cE_J7_343 hT rfl rfl rfl (by decide) (by omega) (by omega) (Nat.le_of_ble_eq_true rfl) dJ7_length_1 zrX (zrK ?_)
  exact z_iret K (by omega) (by omega) (⟨rfl, rfl⟩) dJ7_length_4
theorem sb_init6 {h : zH} {T a : Nat} (hT : h T = some (.inr (19, [.null, .int 0, .int 0, .int 0]))) (T8 : 1000 ≤ T) (hf : h a = none) (a8 : 1000 ≤ a) : zMet yJ6_init (ws_ yJ6_init cJ6_init 2 none) 1 [.ref T, .int (iI 16)] h (zVd (zup (zup h a (aB 16 (fun _ => 0))) T (oSB a 0 0))) 1 16 := by
  have haT : T ≠ a := fun e => by rw [e, hf] at hT; cases hT
  refine zMet.of (by decide) (Nat.le_of_ble_eq_true rfl) fun X K => ?_
  refine z_aload_n K dJ6_init_0 rfl rfl rfl ?_
  refine z_objInit K q331 (by omega) (Nat.le_of_ble_eq_true rfl) dJ6_init_1 ?_
  refine j_getsI K 1 zst_6 (by decide +kernel) q332 dJ6_init_4 ?_
  refine j_if_eq (tgt := 25) K dJ6_init_7 rfl (by omega) (fun c_7 => ?_) (fun c_7 => ?_)
  · exact absurd c_7 (by decide)
  · refine z_aload_n K dJ6_init_10 rfl rfl rfl ?_
    refine z_iload_n K dJ6_init_11 rfl rfl ?_
    refine z_newb K (a) (by omega) (by omega) hf (by omega) (by omega) (by omega) dJ6_init_12 ?_
    refine z_putE K fd_J6_15_19 (by first | exact ⟨_, rfl, Or.inl rfl⟩ | exact ⟨_, rfl, Or.inr ⟨rfl, rfl, rfl⟩⟩) (by first | exact (zup_ne haT).trans hT | exact zup_at _ _ _) (by omega) (Nat.le_of_ble_eq_true rfl) (zf_a) dJ6_init_14 (rfl) ?_
    refine z_aload_n K dJ6_init_17 rfl rfl rfl ?_
    refine j_iconst K dJ6_init_18 ?_
    refine z_putE K fd_J6_22_19 (by first | exact ⟨_, rfl, Or.inl rfl⟩ | exact ⟨_, rfl, Or.inr ⟨rfl, rfl, rfl⟩⟩) (by first | exact (zup_ne haT).trans hT | exact zup_at _ _ _) (by omega) (Nat.le_of_ble_eq_true rfl) (zf_b (Or.inl rfl)) dJ6_init_19 (rfl) ?_
    refine z_goto (tgt := 38) K dJ6_init_22 rfl ?_
    exact z_vret K (by omega) (by omega) (⟨rfl, by rw [zup_zup, ← aB_new]; rfl⟩) dJ6_init_38
theorem sb_init {h : zH} {T a : Nat} (hT : h T = some (.inr (19, [.null, .int 0, .int 0, .int 0]))) (T8 : 1000 ≤ T) (hf : h a = none) (a8 : 1000 ≤ a) : zMet yJ7_init (ws_ yJ7_init cJ7_init 1 none) 2 [.ref T] h (zVd (zup (zup h a (aB 16 (fun _ => 0))) T (oSB a 0 0))) 1 16 := by
  have k1 := sb_init6 hT T8 hf a8
  refine zMet.of (by decide) (Nat.le_of_ble_eq_true rfl) fun X K => ?_
  refine z_aload_n K dJ7_init_0 rfl rfl rfl ?_
  refine j_bipush K dJ7_init_1 (by decide +kernel) ?_
  refine z_cI (fs := []) K (k1) cI_J7_1 rfl rfl (by omega) (by omega) (by omega) (Nat.le_of_ble_eq_true rfl) dJ7_init_3 zvX (zvK ?_)
  exact z_vret K (by omega) (by omega) (⟨rfl, rfl⟩) dJ7_init_6

