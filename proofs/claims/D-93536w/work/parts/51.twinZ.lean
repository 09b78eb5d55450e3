/-! ===== the reference: read ===== -/
theorem rL_S {job made : Int} (hjb : 0 ≤ job ∧ job ≤ 1000) : ∀ (n : Nat) (i : Int) (w w' : tW), rdJ w → (w 31 0 < 0 → w 33 0 = -1 → 0 ≤ made ∧ made < w 0 0) → rL job made n i w w' → rdS w w'
  | 0, i, w, w', _, _, h => h.elim
  | n + 1, i, w, w', hJ, hmd, h => by
    rcases h with ⟨c, rfl⟩ | ⟨c, w1, h1, h2⟩
    · exact ⟨hJ, Int.le_refl _, fun q => q, fun o q => q, fun f _ => rfl⟩
    · have S := rOp_S hJ hjb (hmd c) h1
      have S2 := takes_S S.1.1 47
      rcases h2 with ⟨d, rfl⟩ | ⟨d, h3⟩
      · exact S.1.trans S2
      · refine S.1.trans (S2.trans (rL_S hjb n (i + 1) _ w' S2.1 (fun _ q => ?_) h3))
        have q' : w1 33 0 = -1 := q
        rw [show tset w1 30 0 (w1 30 0 + tk w1 47) 0 0 = w1 0 0 from rfl, S.2]
        exact hmd c (Classical.byContradiction fun y => S.1.2.2.1 y q')
theorem rJb_S {w w' : tW} {job : Int} (h : rdJ w) (hjb : 0 ≤ job ∧ job ≤ 1000) (hq : rJb w job w') : rdS w w' := by
  obtain ⟨W7, W, made, n, h7, h8, h9⟩ := hq
  have S := rJ8_ok h hjb h7 h8
  refine S.1.trans (rL_S hjb n 0 W w' S.1.1 (fun q1 q2 => S.2 q2 ?_) h9)
  rcases h8 with ⟨c, -, -⟩ | ⟨-, e, -⟩
  · exact c.2
  · rw [← e]; exact q1
/-- the jobs of a text, from number j on -/
def rJs : Nat → Int → tW → tW → Int → Prop
  | 0, _, _, _, _ => False
  | n + 1, j, w, w', v => (0 ≤ w 31 0 ∧ w' = w ∧ v = j) ∨ (w 31 0 < 0 ∧ ∃ w1, rJb w j w1 ∧ ((tk w1 59 = 0 ∧ w' = tset w1 30 0 (w1 30 0 + tk w1 59) ∧ v = j + 1) ∨ (tk w1 59 = 1 ∧ rJs n (j + 1) (tset w1 30 0 (w1 30 0 + tk w1 59)) w' v)))
theorem tw_rdJobs {X : zX} {Q : zO → zH → Prop} (K : zK yX4_read cX4_read 3 (some .int) [] 6 0 0 X) {w0 : tW} (kont : ∀ (W : tW) (v : Int), rdS w0 W → (∃ n, rJs n 0 w0 W v) → ∀ env, zsub env [(0, .ref 1000), (1, .int (iI v))] → zW X Q (tH W) 0 0 64 env []) : ∀ (M : Nat) (j : Int) (W : tW), rdS w0 W → 0 ≤ j → j ≤ W 30 0 → (W 5 0 - W 30 0).toNat < M → (∀ n w' v, rJs n j W w' v → ∃ n, rJs n 0 w0 w' v) → ∀ env, zsub env [(0, .ref 1000), (1, .int (iI j)), (2, .int (iI 1))] → zW X Q (tH W) 0 0 35 env [] := by
  intro M
  induction M with
  | zero => intro j W _ _ _ h; omega
  | succ M ih =>
    intro j W hS j0 j1 hM hP env he
    refine zW.cut he ?_
    have hJ := hS.1
    have h31 := hJ.1.2.2.1
    have hl := hJ.1.2.1
    have hl5 := hJ.1.1
    have hjb : 0 ≤ j ∧ j ≤ 1000 := by omega
    have out := fun (z : 0 ≤ W 31 0) => kont W j hS (hP 1 W j (Or.inl ⟨z, rfl, rfl⟩))
    have ex0 : ∀ W' v, rdS w0 W' → (∃ n, rJs n 0 w0 W' v) → ∀ env, zsub env [(0, .ref 1000), (1, .int (iI v)), (2, .int (iI 0))] → zW X Q (tH W') 0 0 35 env [] := fun W' v hs hp env he => by
      refine zW.cut he ?_
      have kk := kont W' v hs hp
      refine z_iload_n K dX4_read_35 rfl rfl ?_
      refine j_if_eq (tgt := 64) K dX4_read_36 rfl (by omega) (fun c_36 => ?_) (fun c_36 => ?_)
      · exact kk _ ⟨rfl, rfl, trivial⟩
      · exact absurd rfl c_36
    have go : W 31 0 < 0 → ∀ W1, rJb W j W1 → ∀ x : Int, x = tk W1 59 → ∀ env, zsub env [(0, .ref 1000), (1, .int (iI (j + 1))), (2, .int (iI x))] → zW X Q (tH (tset W1 30 0 (W1 30 0 + tk W1 59))) 0 0 35 env [] := fun hf W1 hW1 x hx env he => by
      have S := rJb_S hJ hjb hW1
      have S2 := takes_S S.1 59
      have S3 := hS.trans (S.trans S2)
      rcases tk_r W1 59 with z | z
      · rw [hx, z] at he
        exact ex0 _ (j + 1) S3 (hP 1 _ _ (Or.inr ⟨hf, W1, hW1, Or.inl ⟨z, rfl, rfl⟩⟩)) env he
      · rw [hx, z] at he
        have p1 := S.2.1
        have f5 : W1 5 = W 5 := S.2.2.2.2 5 (by decide)
        have l1 := S2.1.1.2.1
        refine ih (j + 1) _ S3 (by omega) (by rw [tset_s]; omega) ?_ (fun n w' v q => hP (n + 1) w' v (Or.inr ⟨hf, W1, hW1, Or.inr ⟨z, q⟩⟩)) env he
        rw [tset_s, tset_g (by decide), f5] at l1 ⊢
        omega
    clear ih
    refine z_iload_n K dX4_read_35 rfl rfl ?_
    refine j_if_eq (tgt := 64) K dX4_read_36 rfl (by omega) (fun c_36 => ?_) (fun c_36 => ?_)
    · exact absurd c_36 (by omega)
    · refine z_aload_n K dX4_read_39 rfl rfl rfl ?_
      refine t_geti K fd_X4_292_0 (by decide) rfl dX4_read_40 ?_
      refine j_if_ge (tgt := 64) K dX4_read_43 rfl (by omega) (fun c_43 => ?_) (fun c_43 => ?_)
      · exact out c_43 _ ⟨rfl, rfl, trivial⟩
      · refine z_aload_n K dX4_read_46 rfl rfl rfl ?_
        refine z_iload_n K dX4_read_47 rfl rfl ?_
        refine t_callv K (tw_readJob (job := j) hJ hjb) cV_X4_324_X4 rfl rfl (by decide) (Nat.le_of_ble_eq_true rfl) (Nat.le_refl _) (Nat.le_refl _) dX4_read_48 ?_
        rintro W1 hW1
        have S := rJb_S hJ hjb hW1
        refine j_iinc K dX4_read_51 rfl (by decide) rfl ?_
        refine z_aload_n K dX4_read_54 rfl rfl rfl ?_
        refine j_bipush K dX4_read_55 (by decide +kernel) ?_
        refine t_calli K (tw_takes (w := W1) (c := 59) (by omega) S.1.1) cV_X4_298_X4 rfl rfl (by decide) (Nat.le_of_ble_eq_true rfl) (Nat.le_refl _) (Nat.le_refl _) dX4_read_57 ?_
        rintro _ _ ⟨rfl, rfl⟩
        refine z_istore_n K dX4_read_60 rfl (by decide) rfl ?_
        refine z_goto (tgt := 35) K dX4_read_61 rfl ?_
        exact go c_43 W1 hW1 _ rfl _ ⟨rfl, rfl, rfl, trivial⟩
def rd0 (w : tW) : tW := tset (tset (tset (wF w 36 (va_cpy (w 0) (w 36) 0 0 203)) 30 0 0) 31 0 (-1)) 33 0 (-1)
def rdF (W : tW) : tW := tset (if W 31 0 < 0 ∧ W 30 0 < W 5 0 then tset W 31 0 (W 30 0) else W) 5 0 0
def rdB (U : tW) : tW := wF U 0 (va_cpy (U 36) (U 0) 0 0 203)
def readQ (w : tW) (v : Int) (w' : tW) : Prop := ∃ n W jobs, rdS (rd0 w) W ∧ rJs n 0 (rd0 w) W jobs ∧ ((rdF W 31 0 < 0 ∧ rdF W 33 0 = -1 ∧ v = jobs ∧ w' = tset (rdF W) 3 0 0) ∨ (0 ≤ rdF W 31 0 ∧ v = 0 ∧ w' = wFail (rdB (tset (rdF W) 3 0 1)) 2 2 (100 + rdF W 31 0) 0 0) ∨ (rdF W 31 0 < 0 ∧ rdF W 33 0 ≠ -1 ∧ v = 0 ∧ w' = wFail (rdB (tset (rdF W) 3 0 2)) (if rdF W 34 0 = 3 then 4 else 3) 3 (100 + rdF W 33 0) (rdF W 34 0) (100 + rdF W 35 0)))
theorem tw_read {w : tW} (h5 : 0 ≤ w 5 0 ∧ w 5 0 ≤ 80) (h4 : ∀ i : Nat, i < 80 → 0 ≤ w 4 i ∧ w 4 i ≤ 65535) (h34 : -1 ≤ w 34 0 ∧ w 34 0 ≤ 1000) (hA : WfA (w 0)) (hO : WfO (w 0)) : tMi yX4_read cX4_read 3 .int 6 [] w (readQ w) := by
  refine zMet.of (by decide) (Nat.le_of_ble_eq_true rfl) fun X K => ?_
  have hJ0 : rdJ (rd0 w) := ⟨⟨h5, by show 0 ≤ (0 : Int) ∧ (0 : Int) ≤ w 5 0; omega, by show -1 ≤ (-1 : Int) ∧ (-1 : Int) ≤ 80; omega, h4⟩, hA, hO, by show -1 ≤ (-1 : Int) ∧ (-1 : Int) ≤ 1000; omega, h34⟩
  have k90 : ∀ (W U : tW) (v : Int), rdS (rd0 w) W → (∃ n, rJs n 0 (rd0 w) W v) → tset U 5 0 0 = rdF W → rdJ W → (-1 ≤ U 31 0 ∧ U 31 0 ≤ 80) → ∀ env, zsub env [(0, .ref 1000), (1, .int (iI v))] → zW X (zPi fun x h' => ∃ v9 w', x = iI v9 ∧ h' = tH w' ∧ readQ w v9 w') (tH U) 0 0 90 env [] := by
    rintro W U v hS ⟨n, hn⟩ hU hJ hu env he
    refine zW.cut he ?_
    have f31 : rdF W 31 0 = U 31 0 := by rw [← hU, tset_f (by decide)]
    have f33 : rdF W 33 0 = W 33 0 := by unfold rdF; rw [tset_f (by decide)]; split <;> rfl
    have f34 : rdF W 34 0 = W 34 0 := by unfold rdF; rw [tset_f (by decide)]; split <;> rfl
    have j33 := hJ.2.2.2.1
    have j34 := hJ.2.2.2.2
    rw [← f31] at hu
    rw [← f33] at j33
    rw [← f34] at j34
    have q1 := fun z1 z2 => (⟨n, W, v, hS, hn, Or.inl ⟨z1, z2, rfl, rfl⟩⟩ : readQ w v (tset (rdF W) 3 0 0))
    have q2 := fun z1 => (⟨n, W, v, hS, hn, Or.inr (Or.inl ⟨z1, rfl, rfl⟩)⟩ : readQ w 0 (wFail (rdB (tset (rdF W) 3 0 1)) 2 2 (100 + rdF W 31 0) 0 0))
    have q3 := fun z1 z2 => (⟨n, W, v, hS, hn, Or.inr (Or.inr ⟨z1, z2, rfl, rfl⟩)⟩ : readQ w 0 (wFail (rdB (tset (rdF W) 3 0 2)) (if rdF W 34 0 = 3 then 4 else 3) 3 (100 + rdF W 33 0) (rdF W 34 0) (100 + rdF W 35 0)))
    clear hS hn
    generalize hF : rdF W = F at *
    have t3 : ∀ t, tset F 3 0 t 3 0 = t := fun t => tset_s
    have kb : ∀ t : Int, ((t = 0 ∧ F 31 0 < 0 ∧ F 33 0 = -1) ∨ (t = 1 ∧ 0 ≤ F 31 0) ∨ (t = 2 ∧ F 31 0 < 0 ∧ F 33 0 ≠ -1)) → ∀ env, zsub env [(0, .ref 1000), (1, .int (iI v))] → zW X (zPi fun x h' => ∃ v9 w', x = iI v9 ∧ h' = tH w' ∧ readQ w v9 w') (tH F) 0 0 120 env [.int (iI t), .ref 1000] := by
      intro t hc env he
      refine zW.cut he ?_
      rcases hc with ⟨rfl, c1, c2⟩ | ⟨rfl, c1⟩ | ⟨rfl, c1, c2⟩
      · refine t_puti K fd_X4_79_0 ⟨_, rfl, Or.inl rfl⟩ (by decide) rfl rfl dX4_read_120 ?_
        refine z_aload_n K dX4_read_123 rfl rfl rfl ?_
        refine t_geti K fd_X4_79_0 (by decide) rfl dX4_read_124 ?_
        refine j_if_ne (tgt := 132) K dX4_read_127 rfl (by rw [t3]; omega) (fun c_127 => ?_) (fun c_127 => ?_)
        · rw [t3] at c_127
          exact absurd rfl c_127
        · refine z_iload_n K dX4_read_130 rfl rfl ?_
          exact t_iret K (Nat.le_refl _) (Nat.le_refl _) (q1 c1 c2) dX4_read_131
      · refine t_puti K fd_X4_79_0 ⟨_, rfl, Or.inl rfl⟩ (by decide) rfl rfl dX4_read_120 ?_
        refine z_aload_n K dX4_read_123 rfl rfl rfl ?_
        refine t_geti K fd_X4_79_0 (by decide) rfl dX4_read_124 ?_
        refine j_if_ne (tgt := 132) K dX4_read_127 rfl (by rw [t3]; omega) (fun c_127 => ?_) (fun c_127 => ?_)
        · refine z_aload_n K dX4_read_132 rfl rfl rfl ?_
          refine t_geta K fd_X4_76_0 rfl dX4_read_133 ?_
          refine j_iconst K dX4_read_136 ?_
          refine z_aload_n K dX4_read_137 rfl rfl rfl ?_
          refine t_geta K fd_X4_9_0 rfl dX4_read_138 ?_
          refine j_iconst K dX4_read_141 ?_
          refine j_sipush K dX4_read_142 (by decide +kernel) ?_
          refine t_copy K 36 0 (by decide) (by decide) rfl rfl q2202 (by omega) (by omega) (by omega) (by decide) (by decide) (by omega) (by decide) dX4_read_145 ?_
          show zW X _ (tH (rdB (tset F 3 0 1))) 0 0 _ _ _
          refine z_aload_n K dX4_read_148 rfl rfl rfl ?_
          refine t_geti K fd_X4_79_0 (by decide) rfl dX4_read_149 ?_
          refine j_iconst K dX4_read_152 ?_
          rw [show rdB (tset F 3 0 1) 3 0 = 1 from rfl]
          refine j_icmp_ne (tgt := 174) K dX4_read_153 rfl (by omega) (by omega) (fun c_153 => ?_) (fun c_153 => ?_)
          · exact absurd rfl c_153
          · refine z_aload_n K dX4_read_156 rfl rfl rfl ?_
            refine j_iconst K dX4_read_157 ?_
            refine j_iconst K dX4_read_158 ?_
            refine j_bipush K dX4_read_159 (by decide +kernel) ?_
            refine z_aload_n K dX4_read_161 rfl rfl rfl ?_
            refine t_geti K fd_X4_292_0 (by decide) rfl dX4_read_162 ?_
            refine j_iadd K dX4_read_165 ?_
            refine j_iconst K dX4_read_166 ?_
            refine j_iconst K dX4_read_167 ?_
            refine t_callv K (tw_fail) cV_X4_217_X4 rfl rfl (by decide) (Nat.le_of_ble_eq_true rfl) (Nat.le_refl _) (Nat.le_refl _) dX4_read_168 ?_
            rintro _ rfl
            refine z_goto (tgt := 210) K dX4_read_171 rfl ?_
            refine j_iconst K dX4_read_210 ?_
            exact t_iret K (Nat.le_refl _) (Nat.le_refl _) (q2 c1) dX4_read_211
        · rw [t3] at c_127
          exact absurd c_127 (by omega)
      · refine t_puti K fd_X4_79_0 ⟨_, rfl, Or.inl rfl⟩ (by decide) rfl rfl dX4_read_120 ?_
        refine z_aload_n K dX4_read_123 rfl rfl rfl ?_
        refine t_geti K fd_X4_79_0 (by decide) rfl dX4_read_124 ?_
        refine j_if_ne (tgt := 132) K dX4_read_127 rfl (by rw [t3]; omega) (fun c_127 => ?_) (fun c_127 => ?_)
        · refine z_aload_n K dX4_read_132 rfl rfl rfl ?_
          refine t_geta K fd_X4_76_0 rfl dX4_read_133 ?_
          refine j_iconst K dX4_read_136 ?_
          refine z_aload_n K dX4_read_137 rfl rfl rfl ?_
          refine t_geta K fd_X4_9_0 rfl dX4_read_138 ?_
          refine j_iconst K dX4_read_141 ?_
          refine j_sipush K dX4_read_142 (by decide +kernel) ?_
          refine t_copy K 36 0 (by decide) (by decide) rfl rfl q2202 (by omega) (by omega) (by omega) (by decide) (by decide) (by omega) (by decide) dX4_read_145 ?_
          show zW X _ (tH (rdB (tset F 3 0 2))) 0 0 _ _ _
          refine z_aload_n K dX4_read_148 rfl rfl rfl ?_
          refine t_geti K fd_X4_79_0 (by decide) rfl dX4_read_149 ?_
          refine j_iconst K dX4_read_152 ?_
          rw [show rdB (tset F 3 0 2) 3 0 = 2 from rfl]
          refine j_icmp_ne (tgt := 174) K dX4_read_153 rfl (by omega) (by omega) (fun c_153 => ?_) (fun c_153 => ?_)
          · refine z_aload_n K dX4_read_174 rfl rfl rfl ?_
            refine z_aload_n K dX4_read_175 rfl rfl rfl ?_
            refine t_geti K fd_X4_305_0 (by decide) rfl dX4_read_176 ?_
            rw [show rdB (tset F 3 0 2) 34 0 = F 34 0 from rfl]
            refine j_iconst K dX4_read_179 ?_
            refine j_icmp_ne (tgt := 187) K dX4_read_180 rfl (by omega) (by omega) (fun c_180 => ?_) (fun c_180 => ?_)
            · rw [if_neg c_180] at q3
              refine j_iconst K dX4_read_187 ?_
              refine j_iconst K dX4_read_188 ?_
              refine j_bipush K dX4_read_189 (by decide +kernel) ?_
              refine z_aload_n K dX4_read_191 rfl rfl rfl ?_
              refine t_geti K fd_X4_302_0 (by decide) rfl dX4_read_192 ?_
              refine j_iadd K dX4_read_195 ?_
              refine z_aload_n K dX4_read_196 rfl rfl rfl ?_
              refine t_geti K fd_X4_305_0 (by decide) rfl dX4_read_197 ?_
              refine j_bipush K dX4_read_200 (by decide +kernel) ?_
              refine z_aload_n K dX4_read_202 rfl rfl rfl ?_
              refine t_geti K fd_X4_308_0 (by decide) rfl dX4_read_203 ?_
              refine j_iadd K dX4_read_206 ?_
              refine t_callv K (tw_fail) cV_X4_217_X4 rfl rfl (by decide) (Nat.le_of_ble_eq_true rfl) (Nat.le_refl _) (Nat.le_refl _) dX4_read_207 ?_
              rintro _ rfl
              refine j_iconst K dX4_read_210 ?_
              exact t_iret K (Nat.le_refl _) (Nat.le_refl _) (q3 c1 c2) dX4_read_211
            · rw [if_pos c_180] at q3
              refine j_iconst K dX4_read_183 ?_
              refine z_goto (tgt := 188) K dX4_read_184 rfl ?_
              refine j_iconst K dX4_read_188 ?_
              refine j_bipush K dX4_read_189 (by decide +kernel) ?_
              refine z_aload_n K dX4_read_191 rfl rfl rfl ?_
              refine t_geti K fd_X4_302_0 (by decide) rfl dX4_read_192 ?_
              refine j_iadd K dX4_read_195 ?_
              refine z_aload_n K dX4_read_196 rfl rfl rfl ?_
              refine t_geti K fd_X4_305_0 (by decide) rfl dX4_read_197 ?_
              refine j_bipush K dX4_read_200 (by decide +kernel) ?_
              refine z_aload_n K dX4_read_202 rfl rfl rfl ?_
              refine t_geti K fd_X4_308_0 (by decide) rfl dX4_read_203 ?_
              refine j_iadd K dX4_read_206 ?_
              refine t_callv K (tw_fail) cV_X4_217_X4 rfl rfl (by decide) (Nat.le_of_ble_eq_true rfl) (Nat.le_refl _) (Nat.le_refl _) dX4_read_207 ?_
              rintro _ rfl
              refine j_iconst K dX4_read_210 ?_
              exact t_iret K (Nat.le_refl _) (Nat.le_refl _) (q3 c1 c2) dX4_read_211
          · exact absurd c_153 (by omega)
        · rw [t3] at c_127
          exact absurd c_127 (by omega)
    refine z_aload_n K dX4_read_90 rfl rfl rfl ?_
    refine j_iconst K dX4_read_91 ?_
    refine t_puti K fd_X4_279_0 ⟨_, rfl, Or.inl rfl⟩ (by decide) rfl rfl dX4_read_92 ?_
    rw [hU]
    refine z_aload_n K dX4_read_95 rfl rfl rfl ?_
    refine z_aload_n K dX4_read_96 rfl rfl rfl ?_
    refine t_geti K fd_X4_292_0 (by decide) rfl dX4_read_97 ?_
    refine j_if_lt (tgt := 107) K dX4_read_100 rfl (by omega) (fun c_100 => ?_) (fun c_100 => ?_)
    · refine z_aload_n K dX4_read_107 rfl rfl rfl ?_
      refine t_geti K fd_X4_302_0 (by decide) rfl dX4_read_108 ?_
      refine j_iconst K dX4_read_111 ?_
      refine j_icmp_eq (tgt := 119) K dX4_read_112 rfl (by omega) (by omega) (fun c_112 => ?_) (fun c_112 => ?_)
      · refine j_iconst K dX4_read_119 ?_
        exact kb _ (by omega) _ ⟨rfl, rfl, trivial⟩
      · refine j_iconst K dX4_read_115 ?_
        refine z_goto (tgt := 120) K dX4_read_116 rfl ?_
        exact kb _ (by omega) _ ⟨rfl, rfl, trivial⟩
    · refine j_iconst K dX4_read_103 ?_
      refine z_goto (tgt := 120) K dX4_read_104 rfl ?_
      exact kb _ (by omega) _ ⟨rfl, rfl, trivial⟩
  have k64 : ∀ (W : tW) (v : Int), rdS (rd0 w) W → (∃ n, rJs n 0 (rd0 w) W v) → ∀ env, zsub env [(0, .ref 1000), (1, .int (iI v))] → zW X (zPi fun x h' => ∃ v9 w', x = iI v9 ∧ h' = tH w' ∧ readQ w v9 w') (tH W) 0 0 64 env [] := by
    intro W v hS hn env he
    refine zW.cut he ?_
    have j31 := hS.1.1.2.2.1
    have j30 := hS.1.1.2.1
    have j5 := hS.1.1.1
    have kA := fun (z : ¬ (W 31 0 < 0 ∧ W 30 0 < W 5 0)) => k90 W W v hS hn (by unfold rdF; rw [if_neg z]) hS.1 j31
    have kB := fun (z : W 31 0 < 0 ∧ W 30 0 < W 5 0) => k90 W (tset W 31 0 (W 30 0)) v hS hn (by unfold rdF; rw [if_pos z]) hS.1 (by rw [tset_s]; omega)
    clear k90
    refine z_aload_n K dX4_read_64 rfl rfl rfl ?_
    refine t_geti K fd_X4_292_0 (by decide) rfl dX4_read_65 ?_
    refine j_if_ge (tgt := 90) K dX4_read_68 rfl (by omega) (fun c_68 => ?_) (fun c_68 => ?_)
    · have zz := kA (by omega)
      exact zz _ ⟨rfl, rfl, trivial⟩
    · refine z_aload_n K dX4_read_71 rfl rfl rfl ?_
      refine t_geti K fd_X4_282_0 (by decide) rfl dX4_read_72 ?_
      refine z_aload_n K dX4_read_75 rfl rfl rfl ?_
      refine t_geti K fd_X4_279_0 (by decide) rfl dX4_read_76 ?_
      refine j_icmp_ge (tgt := 90) K dX4_read_79 rfl (by omega) (by omega) (fun c_79 => ?_) (fun c_79 => ?_)
      · have zz := kA (by omega)
        exact zz _ ⟨rfl, rfl, trivial⟩
      · have zz := kB (by omega)
        refine z_aload_n K dX4_read_82 rfl rfl rfl ?_
        refine z_aload_n K dX4_read_83 rfl rfl rfl ?_
        refine t_geti K fd_X4_282_0 (by decide) rfl dX4_read_84 ?_
        refine t_puti K fd_X4_292_0 ⟨_, rfl, Or.inl rfl⟩ (by decide) rfl rfl dX4_read_87 ?_
        exact zz _ ⟨rfl, rfl, trivial⟩
  have go := tw_rdJobs K k64 ((rd0 w 5 0 - rd0 w 30 0).toNat + 1) 0 (rd0 w) ⟨hJ0, Int.le_refl _, fun q => q, fun o q => q, fun f _ => rfl⟩ (by omega) hJ0.1.2.1.1 (by omega) (fun n w' v q => ⟨n, q⟩)
  clear k90 k64
  refine z_aload_n K dX4_read_0 rfl rfl rfl ?_
  refine t_geta K fd_X4_9_0 rfl dX4_read_1 ?_
  refine j_iconst K dX4_read_4 ?_
  refine z_aload_n K dX4_read_5 rfl rfl rfl ?_
  refine t_geta K fd_X4_76_0 rfl dX4_read_6 ?_
  refine j_iconst K dX4_read_9 ?_
  refine j_sipush K dX4_read_10 (by decide +kernel) ?_
  refine t_copy K 0 36 (by decide) (by decide) rfl rfl q2202 (by omega) (by omega) (by omega) (by decide) (by decide) (by omega) (by decide) dX4_read_13 ?_
  refine z_aload_n K dX4_read_16 rfl rfl rfl ?_
  refine j_iconst K dX4_read_17 ?_
  refine t_puti K fd_X4_282_0 ⟨_, rfl, Or.inl rfl⟩ (by decide) rfl rfl dX4_read_18 ?_
  refine z_aload_n K dX4_read_21 rfl rfl rfl ?_
  refine j_iconst K dX4_read_22 ?_
  refine t_puti K fd_X4_292_0 ⟨_, rfl, Or.inl rfl⟩ (by decide) rfl rfl dX4_read_23 ?_
  refine z_aload_n K dX4_read_26 rfl rfl rfl ?_
  refine j_iconst K dX4_read_27 ?_
  refine t_puti K fd_X4_302_0 ⟨_, rfl, Or.inl rfl⟩ (by decide) rfl rfl dX4_read_28 ?_
  refine j_iconst K dX4_read_31 ?_
  refine z_istore_n K dX4_read_32 rfl (by decide) rfl ?_
  refine j_iconst K dX4_read_33 ?_
  refine z_istore_n K dX4_read_34 rfl (by decide) rfl ?_
  exact go _ ⟨rfl, rfl, rfl, trivial⟩

