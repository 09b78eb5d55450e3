/-! ===== the reference: copies of arrays; save, restore ===== -/
theorem tH_wF {w : tW} {f : Nat} (hf : tlen f ≠ 0) {b : Nat → Int} : zup (tH w) (1001 + f) (.inl (tty f, tlen f, .inl (fun i => iI (b i)))) = tH (wF w f b) := by
  funext m
  by_cases hm : m = 1001 + f
  · subst hm
    rw [zup_at, tH_arr _ hf, wF_s]
  · rw [zup_ne hm]
    unfold tH
    by_cases h0 : m = 1000
    · rw [if_pos h0, if_pos h0]
      have e : tF w = tF (wF w f b) := by
        have : ∀ g, tfv w g = tfv (wF w f b) g := by
          intro g
          unfold tfv
          cases hb : Nat.beq (tlen g) 0 with
          | false => rfl
          | true =>
            have hg : g ≠ f := fun q => hf (by rw [← q]; exact Nat.eq_of_beq_eq_true hb)
            rw [wF_n hg]
        unfold tF
        simp only [← this]
      rw [e]
    · rw [if_neg h0, if_neg h0]
      by_cases h1 : 1001 ≤ m ∧ tlen (m - 1001) ≠ 0
      · rw [if_pos h1, if_pos h1, wF_n (by omega)]
      · rw [if_neg h1, if_neg h1]
theorem iI_nn {a : Int} (h : 0 ≤ a ∧ a ≤ 2147483647) : ¬ iI a < 0 := fun q => by
  have := Int32.lt_iff_toInt_lt.mp q
  rw [iI_toInt (by omega)] at this
  simp at this
  omega
section ZCT
variable {y : MethodName} {cc : ByteArray} {nL : Nat} {ret : Option FieldType} {hh : List (Nat × Nat × Nat × Nat)} {d kc ks : Nat} {X : zX} {Q : zO → zH → Prop} {w : tW} {k n pc : Nat} {env : List (Nat × Value)} {st : List Value}
theorem t_copy (K : zK y cc nL ret hh d kc ks X) (f g : Nat) {idx : Nat} {a b c : Int} (hf : tlen f ≠ 0) (hg : tlen g ≠ 0) (tf : tty f = 0) (tg : tty g = 0) (hw : Jvm.Cond.methodLink y.cls idx arraycopyName ∈ lw_all)
    (ha : 0 ≤ a ∧ a ≤ 2147483647) (hb : 0 ≤ b ∧ b ≤ 2147483647) (hc : 0 ≤ c ∧ c ≤ 2147483647) (h4 : a.toNat + c.toNat ≤ tlen f) (h5 : b.toNat + c.toNat ≤ tlen g) (hd : 1 ≤ d) (hcat : (st.map fun v => v.category).sum ≤ 8) (dd : decode cc pc = .ok (.invokestatic idx, 3))
    (kk : zW X Q (tH (wF w g (va_cpy (w f) (w g) a.toNat b.toNat c.toNat))) k n (pc + 3) env st) : zW X Q (tH w) k n pc env (.int (iI c) :: .int (iI b) :: .ref (1001 + g) :: .int (iI a) :: .ref (1001 + f) :: st) := by
  have hF := tH_arr w hf
  have hG := tH_arr w hg
  rw [tf] at hF
  rw [tg] at hG
  refine z_copyi K hF hG (by omega) hw (iI_nn ha) (iI_nn hb) (iI_nn hc) (by rw [iI_clamp ha.1 ha.2, iI_clamp hc.1 hc.2]; exact h4) (by rw [iI_clamp hb.1 hb.2, iI_clamp hc.1 hc.2]; exact h5) hd hcat dd ?_
  rw [iI_clamp ha.1 ha.2, iI_clamp hb.1 hb.2, iI_clamp hc.1 hc.2]
  have e := tH_wF (w := w) hg (b := va_cpy (w f) (w g) a.toNat b.toNat c.toNat)
  rw [tg] at e
  rw [← e] at kk
  have e2 : (fun i => iI (va_cpy (w f) (w g) a.toNat b.toNat c.toNat i)) = va_cpy (fun i => iI (w f i)) (fun i => iI (w g i)) a.toNat b.toNat c.toNat := by
    funext i
    unfold va_cpy
    split <;> rfl
  rw [e2] at kk
  exact kk
end ZCT
theorem tw_save {w : tW} : tMv yX4_save cX4_save 1 2 [] w (fun w' => w' = tset (wF (tset w 3 0 0) 1 (va_cpy (w 0) (w 1) 0 0 203)) 2 0 1) := by
  refine zMet.of (by decide) (Nat.le_of_ble_eq_true rfl) fun X K => ?_
  refine z_aload_n K dX4_save_0 rfl rfl rfl ?_
  refine j_iconst K dX4_save_1 ?_
  refine t_puti K fd_X4_79_0 ⟨_, rfl, Or.inl rfl⟩ (by decide) rfl rfl dX4_save_2 ?_
  refine z_aload_n K dX4_save_5 rfl rfl rfl ?_
  refine t_geta K fd_X4_9_0 rfl dX4_save_6 ?_
  refine j_iconst K dX4_save_9 ?_
  refine z_aload_n K dX4_save_10 rfl rfl rfl ?_
  refine t_geta K fd_X4_13_0 rfl dX4_save_11 ?_
  refine j_iconst K dX4_save_14 ?_
  refine j_sipush K dX4_save_15 (by decide +kernel) ?_
  refine t_copy K 0 1 (by decide) (by decide) rfl rfl q2202 (by omega) (by omega) (by omega) (by decide) (by decide) (by omega) (by decide) dX4_save_18 ?_
  refine z_aload_n K dX4_save_21 rfl rfl rfl ?_
  refine j_iconst K dX4_save_22 ?_
  refine t_putz K fd_X4_327_0 ⟨_, rfl, Or.inl rfl⟩ (by decide) rfl rfl (by omega) dX4_save_23 ?_
  exact t_vret K (Nat.le_refl _) (Nat.le_refl _) (rfl) dX4_save_26
theorem tw_restore {w : tW} (h : w 2 0 = 0 ∨ w 2 0 = 1) : tMv yX4_restore cX4_restore 1 2 [] w (fun w' => (w 2 0 = 0 ∧ w' = tset w 3 0 1) ∨ (w 2 0 = 1 ∧ w' = wF (tset w 3 0 0) 0 (va_cpy (w 1) (w 0) 0 0 203))) := by
  refine zMet.of (by decide) (Nat.le_of_ble_eq_true rfl) fun X K => ?_
  refine z_aload_n K dX4_restore_0 rfl rfl rfl ?_
  refine z_aload_n K dX4_restore_1 rfl rfl rfl ?_
  refine t_geti K fd_X4_327_0 (by decide) rfl dX4_restore_2 ?_
  refine j_if_eq (tgt := 12) K dX4_restore_5 rfl (by omega) (fun c_5 => ?_) (fun c_5 => ?_)
  · refine j_iconst K dX4_restore_12 ?_
    refine t_puti K fd_X4_79_0 ⟨_, rfl, Or.inl rfl⟩ (by decide) rfl rfl dX4_restore_13 ?_
    refine z_aload_n K dX4_restore_16 rfl rfl rfl ?_
    refine t_geti K fd_X4_79_0 (by decide) rfl dX4_restore_17 ?_
    refine j_if_ne (tgt := 39) K dX4_restore_20 rfl (by rw [tset_s]; omega) (fun c_20 => ?_) (fun c_20 => ?_)
    · rw [tset_s] at c_20
      exact t_vret K (Nat.le_refl _) (Nat.le_refl _) ((by first | exact Or.inl ⟨by omega, rfl⟩ | exact Or.inr ⟨by omega, rfl⟩ | (exfalso; omega))) dX4_restore_39
    · rw [tset_s] at c_20
      refine z_aload_n K dX4_restore_23 rfl rfl rfl ?_
      refine t_geta K fd_X4_13_0 rfl dX4_restore_24 ?_
      refine j_iconst K dX4_restore_27 ?_
      refine z_aload_n K dX4_restore_28 rfl rfl rfl ?_
      refine t_geta K fd_X4_9_0 rfl dX4_restore_29 ?_
      refine j_iconst K dX4_restore_32 ?_
      refine j_sipush K dX4_restore_33 (by decide +kernel) ?_
      refine t_copy K 1 0 (by decide) (by decide) rfl rfl q2202 (by omega) (by omega) (by omega) (by decide) (by decide) (by omega) (by decide) dX4_restore_36 ?_
      exact t_vret K (Nat.le_refl _) (Nat.le_refl _) ((by first | exact Or.inl ⟨by omega, rfl⟩ | exact Or.inr ⟨by omega, rfl⟩ | (exfalso; omega))) dX4_restore_39
  · refine j_iconst K dX4_restore_8 ?_
    refine z_goto (tgt := 13) K dX4_restore_9 rfl ?_
    refine t_puti K fd_X4_79_0 ⟨_, rfl, Or.inl rfl⟩ (by decide) rfl rfl dX4_restore_13 ?_
    refine z_aload_n K dX4_restore_16 rfl rfl rfl ?_
    refine t_geti K fd_X4_79_0 (by decide) rfl dX4_restore_17 ?_
    refine j_if_ne (tgt := 39) K dX4_restore_20 rfl (by rw [tset_s]; omega) (fun c_20 => ?_) (fun c_20 => ?_)
    · rw [tset_s] at c_20
      exact t_vret K (Nat.le_refl _) (Nat.le_refl _) ((by first | exact Or.inl ⟨by omega, rfl⟩ | exact Or.inr ⟨by omega, rfl⟩ | (exfalso; omega))) dX4_restore_39
    · rw [tset_s] at c_20
      refine z_aload_n K dX4_restore_23 rfl rfl rfl ?_
      refine t_geta K fd_X4_13_0 rfl dX4_restore_24 ?_
      refine j_iconst K dX4_restore_27 ?_
      refine z_aload_n K dX4_restore_28 rfl rfl rfl ?_
      refine t_geta K fd_X4_9_0 rfl dX4_restore_29 ?_
      refine j_iconst K dX4_restore_32 ?_
      refine j_sipush K dX4_restore_33 (by decide +kernel) ?_
      refine t_copy K 1 0 (by decide) (by decide) rfl rfl q2202 (by omega) (by omega) (by omega) (by decide) (by decide) (by omega) (by decide) dX4_restore_36 ?_
      exact t_vret K (Nat.le_refl _) (Nat.le_refl _) ((by first | exact Or.inl ⟨by omega, rfl⟩ | exact Or.inr ⟨by omega, rfl⟩ | (exfalso; omega))) dX4_restore_39

