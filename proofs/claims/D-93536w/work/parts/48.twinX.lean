/-! ===== the reference: readJob ===== -/
/-- the operations of a job, from index i on -/
def rL (job made : Int) : Nat → Int → tW → tW → Prop
  | 0, _, _, _ => False
  | n + 1, i, w, w' => (0 ≤ w 31 0 ∧ w' = w) ∨ (w 31 0 < 0 ∧ ∃ w1, rOp w job i made w1 ∧ ((tk w1 47 = 0 ∧ w' = tset w1 30 0 (w1 30 0 + tk w1 47)) ∨ (tk w1 47 = 1 ∧ rL job made n (i + 1) (tset w1 30 0 (w1 30 0 + tk w1 47)) w')))
def wJ1 (w : tW) : tW := wNum w 3
def wJ2 (w : tW) : tW := wWants (wJ1 w) 44
def wJ3 (w : tW) : tW := wNum (wJ2 w) 3
def wJ4 (w : tW) : tW := wWants (wJ3 w) 44
def wJ5 (w : tW) : tW := wNum (wJ4 w) 3
def wJ6 (w : tW) : tW := wWants (wJ5 w) 58
theorem wJ_ok {w : tW} (h : rdI w) : rdI (wJ1 w) ∧ rdI (wJ2 w) ∧ rdI (wJ3 w) ∧ rdI (wJ4 w) ∧ rdI (wJ5 w) ∧ rdI (wJ6 w) ∧ (0 ≤ wJ1 w 32 0 ∧ wJ1 w 32 0 ≤ 999) ∧ (0 ≤ wJ3 w 32 0 ∧ wJ3 w 32 0 ≤ 999) ∧ (0 ≤ wJ5 w 32 0 ∧ wJ5 w 32 0 ≤ 999) ∧ w 30 0 ≤ wJ6 w 30 0 ∧ ∀ f, f ≠ 30 → f ≠ 31 → f ≠ 32 → wJ6 w f = w f := by
  have a := h.num (q := 3) (by omega)
  have b := a.1.wants 44
  have c := b.1.num (q := 3) (by omega)
  have d := c.1.wants 44
  have e := d.1.num (q := 3) (by omega)
  have g := e.1.wants 58
  refine ⟨a.1, b.1, c.1, d.1, e.1, g.1, a.2.1, c.2.1, e.2.1, ?_, fun f f30 f31 f32 => ?_⟩
  · have a' : w 30 0 ≤ wJ1 w 30 0 := h.num_p (q := 3) (by omega)
    have b' : wJ1 w 30 0 ≤ wJ2 w 30 0 := wWants_p
    have c' : wJ2 w 30 0 ≤ wJ3 w 30 0 := b.1.num_p (q := 3) (by omega)
    have d' : wJ3 w 30 0 ≤ wJ4 w 30 0 := wWants_p
    have e' : wJ4 w 30 0 ≤ wJ5 w 30 0 := d.1.num_p (q := 3) (by omega)
    have g' : wJ5 w 30 0 ≤ wJ6 w 30 0 := wWants_p
    omega
  · exact (g.2.2 f f30 f31).trans ((e.2.2.2 f f30 f31 f32).trans ((d.2.2 f f30 f31).trans ((c.2.2.2 f f30 f31 f32).trans ((b.2.2 f f30 f31).trans (a.2.2.2 f f30 f31 f32)))))
def wCn (w : tW) (job y : Int) : tW := if w 33 0 = -1 then tset (tset (tset w 33 0 job) 34 0 y) 35 0 0 else w
/-- the world after the head of a job, but for its making -/
def rJ7 (w : tW) (job : Int) (W : tW) : Prop := (w 0 0 = 5 ∧ W = wCn (wJ6 w) job 1) ∨ (w 0 0 ≠ 5 ∧ ¬ (jpOk 0 (wJ1 w 32 0) ∧ jpOk 1 (wJ3 w 32 0) ∧ jpOk 2 (wJ5 w 32 0)) ∧ W = wCn (wJ6 w) job 2) ∨ (w 0 0 ≠ 5 ∧ (jpOk 0 (wJ1 w 32 0) ∧ jpOk 1 (wJ3 w 32 0) ∧ jpOk 2 (wJ5 w 32 0)) ∧ W = wJ6 w)
def rJ8 (w W7 : tW) (W : tW) (made : Int) : Prop := ((W7 33 0 = -1 ∧ W7 31 0 < 0) ∧ W = wJob W7 (wJ1 w 32 0) (wJ3 w 32 0) (wJ5 w 32 0) ∧ made = W7 0 0) ∨ (¬ (W7 33 0 = -1 ∧ W7 31 0 < 0) ∧ W = W7 ∧ made = 0)
def rJb (w : tW) (job : Int) (w' : tW) : Prop := ∃ W7 W made n, rJ7 w job W7 ∧ rJ8 w W7 W made ∧ rL job made n 0 W w'
theorem tw_rdLoop {X : zX} (K : zK yX4_readJob cX4_readJob 8 none [] 5 0 0 X) {P : tW → Prop} {job made : Int} (hjb : 0 ≤ job ∧ job ≤ 1000) : ∀ (M : Nat) (i : Int) (W : tW), rdJ W → (W 31 0 < 0 → W 33 0 = -1 → 0 ≤ made ∧ made < W 0 0) → (W 5 0 - W 30 0).toNat < M → (∀ n w', rL job made n i W w' → P w') → ∀ env, zsub env [(0, .ref 1000), (1, .int (iI job)), (5, .int (iI made)), (6, .int (iI i)), (7, .int (iI 1))] → zW X (zPv fun h' => ∃ w', h' = tH w' ∧ P w') (tH W) 0 0 121 env [] := by
  intro M
  induction M with
  | zero => intro i W _ _ h; omega
  | succ M ih =>
    intro i W hJ hmd hM hP env he
    refine zW.cut he ?_
    have h31 := hJ.1.2.2.1
    have out : 0 ≤ W 31 0 → P W := fun z => hP 1 W (Or.inl ⟨z, rfl⟩)
    have ex0 : ∀ W', P W' → ∀ env, zsub env [(0, .ref 1000), (7, .int (iI 0))] → zW X (zPv fun h' => ∃ w', h' = tH w' ∧ P w') (tH W') 0 0 121 env [] := fun W' hp env he => by
      refine zW.cut he ?_
      refine z_iload K dX4_readJob_121 rfl ?_
      refine j_if_eq (tgt := 156) K dX4_readJob_123 rfl (by omega) (fun c_123 => ?_) (fun c_123 => ?_)
      · exact t_vret K (Nat.le_refl _) (Nat.le_refl _) (hp) dX4_readJob_156
      · exact absurd rfl c_123
    have go : W 31 0 < 0 → ∀ W1, rOp W job i made W1 → ∀ x : Int, x = tk W1 47 → ∀ env, zsub env [(0, .ref 1000), (1, .int (iI job)), (5, .int (iI made)), (6, .int (iI (i + 1))), (7, .int (iI x))] → zW X (zPv fun h' => ∃ w', h' = tH w' ∧ P w') (tH (tset W1 30 0 (W1 30 0 + tk W1 47))) 0 0 121 env [] := fun hf W1 hW1 x hx env he => by
      have S := rOp_S hJ hjb (hmd hf) hW1
      have S2 := takes_S S.1.1 47
      rcases tk_r W1 47 with z | z
      · rw [hx, z] at he
        exact ex0 _ (hP 1 _ (Or.inr ⟨hf, W1, hW1, Or.inl ⟨z, rfl⟩⟩)) env ⟨he.1, he.2.2.2.2.1, trivial⟩
      · rw [hx, z] at he
        refine ih (i + 1) _ S2.1 (fun _ q => ?_) ?_ (fun n w' q => hP (n + 1) w' (Or.inr ⟨hf, W1, hW1, Or.inr ⟨z, q⟩⟩)) env he
        · have q' : W1 33 0 = -1 := q
          rw [show tset W1 30 0 (W1 30 0 + tk W1 47) 0 0 = W1 0 0 from rfl, S.2]
          exact hmd hf (Classical.byContradiction fun y => S.1.2.2.1 y q')
        · have p1 := S.1.2.1
          have f5 : W1 5 = W 5 := S.1.2.2.2.2 5 (by decide)
          have l1 := S2.1.1.2.1
          rw [tset_s, tset_g (by decide), f5] at l1 ⊢
          omega
    clear ih
    refine z_iload K dX4_readJob_121 rfl ?_
    refine j_if_eq (tgt := 156) K dX4_readJob_123 rfl (by omega) (fun c_123 => ?_) (fun c_123 => ?_)
    · exact absurd c_123 (by omega)
    · refine z_aload_n K dX4_readJob_126 rfl rfl rfl ?_
      refine t_geti K fd_X4_292_0 (by decide) rfl dX4_readJob_127 ?_
      refine j_if_ge (tgt := 156) K dX4_readJob_130 rfl (by omega) (fun c_130 => ?_) (fun c_130 => ?_)
      · exact t_vret K (Nat.le_refl _) (Nat.le_refl _) (out c_130) dX4_readJob_156
      · refine z_aload_n K dX4_readJob_133 rfl rfl rfl ?_
        refine z_iload_n K dX4_readJob_134 rfl rfl ?_
        refine z_iload K dX4_readJob_135 rfl ?_
        refine z_iload K dX4_readJob_137 rfl ?_
        refine t_callv K (tw_readOperation (job := job) (idx := i) (made := made) hJ.1 hJ.2.1 hJ.2.2.1 hJ.2.2.2.1 (hmd c_130)) cV_X4_321_X4 rfl rfl (by decide) (Nat.le_of_ble_eq_true rfl) (Nat.le_refl _) (Nat.le_refl _) dX4_readJob_139 ?_
        rintro W1 hW1
        have S := rOp_S hJ hjb (hmd c_130) hW1
        refine j_iinc K dX4_readJob_142 rfl (by decide) rfl ?_
        refine z_aload_n K dX4_readJob_145 rfl rfl rfl ?_
        refine j_bipush K dX4_readJob_146 (by decide +kernel) ?_
        refine t_calli K (tw_takes (w := W1) (c := 47) (by omega) S.1.1.1) cV_X4_298_X4 rfl rfl (by decide) (Nat.le_of_ble_eq_true rfl) (Nat.le_refl _) (Nat.le_refl _) dX4_readJob_148 ?_
        rintro _ _ ⟨rfl, rfl⟩
        refine z_istore K dX4_readJob_151 (by decide) rfl ?_
        refine z_goto (tgt := 121) K dX4_readJob_153 rfl ?_
        exact go c_130 W1 hW1 _ rfl _ ⟨rfl, rfl, rfl, rfl, rfl, trivial⟩
theorem rJ7_ok {w W : tW} {job : Int} (h : rdJ w) (hjb : 0 ≤ job ∧ job ≤ 1000) (hq : rJ7 w job W) : rdS w W ∧ W 0 = w 0 ∧ (W 33 0 = -1 → W = wJ6 w ∧ w 0 0 ≠ 5 ∧ (jpOk 0 (wJ1 w 32 0) ∧ jpOk 1 (wJ3 w 32 0) ∧ jpOk 2 (wJ5 w 32 0))) := by
  obtain ⟨hI, hA, hO, h33, h34⟩ := h
  obtain ⟨-, -, -, -, -, r6, -, -, -, hp, ff⟩ := wJ_ok hI
  have e0 : wJ6 w 0 = w 0 := ff 0 (by decide) (by decide) (by decide)
  have e33 : wJ6 w 33 = w 33 := ff 33 (by decide) (by decide) (by decide)
  have e34 : wJ6 w 34 = w 34 := ff 34 (by decide) (by decide) (by decide)
  have fr : Fr [0, 30, 31, 32, 33, 34, 35] w (wJ6 w) := fun f hf => ff f (fun e => hf (by rw [e]; decide)) (fun e => hf (by rw [e]; decide)) (fun e => hf (by rw [e]; decide))
  have s6 : rdS w (wJ6 w) := ⟨⟨r6, by rw [e0]; exact hA, by rw [e0]; exact hO, by rw [e33]; exact h33, by rw [e34]; exact h34⟩, hp, fun q => by rw [e33]; exact q, fun o q => by rw [e0]; exact q, fr⟩
  have cn : ∀ y, -1 ≤ y ∧ y ≤ 1000 → rdS w (wCn (wJ6 w) job y) ∧ wCn (wJ6 w) job y 0 = w 0 ∧ wCn (wJ6 w) job y 33 0 ≠ -1 := fun y hy => by
    unfold wCn
    split
    · next c =>
      refine ⟨⟨⟨r6.eq rfl rfl rfl rfl, by show WfA (wJ6 w 0); rw [e0]; exact hA, by show WfO (wJ6 w 0); rw [e0]; exact hO, ?_, ?_⟩, hp, fun q => ?_, fun o q => by show ACy (wJ6 w 0) o; rw [e0]; exact q, fun f hf => ?_⟩, e0, ?_⟩
      · rw [tset_f (by decide), tset_f (by decide), tset_s]; omega
      · rw [tset_f (by decide), tset_s]; omega
      · rw [tset_f (by decide), tset_f (by decide), tset_s]; omega
      · rw [tset_g (fun e => hf (by rw [e]; decide)), tset_g (fun e => hf (by rw [e]; decide)), tset_g (fun e => hf (by rw [e]; decide))]; exact fr f hf
      · rw [tset_f (by decide), tset_f (by decide), tset_s]; omega
    · next c => exact ⟨s6, e0, c⟩
  rcases hq with ⟨c, rfl⟩ | ⟨c, d, rfl⟩ | ⟨c, d, rfl⟩
  · exact ⟨(cn 1 (by omega)).1, (cn 1 (by omega)).2.1, fun q => absurd q (cn 1 (by omega)).2.2⟩
  · exact ⟨(cn 2 (by omega)).1, (cn 2 (by omega)).2.1, fun q => absurd q (cn 2 (by omega)).2.2⟩
  · exact ⟨s6, e0, fun q => ⟨rfl, c, d⟩⟩
theorem rJ8_ok {w W7 W : tW} {job made : Int} (h : rdJ w) (hjb : 0 ≤ job ∧ job ≤ 1000) (h7 : rJ7 w job W7) (h8 : rJ8 w W7 W made) : rdS w W ∧ (W 33 0 = -1 → W7 31 0 < 0 → 0 ≤ made ∧ made < W 0 0) := by
  obtain ⟨S, e0, hok⟩ := rJ7_ok h hjb h7
  rcases h8 with ⟨c, rfl, rfl⟩ | ⟨c, rfl, rfl⟩
  · obtain ⟨q1, q2, q3⟩ := hok c.1
    have h05 := h.2.1.1.1
    have a1 : 0 ≤ wJ1 w 32 0 ∧ wJ1 w 32 0 ≤ 99 := by have := q3.1; unfold jpOk at this; exact this
    have a2 : 0 ≤ wJ3 w 32 0 ∧ wJ3 w 32 0 ≤ 200 := by have := q3.2.1; unfold jpOk at this; exact this
    have a3 : 0 ≤ wJ5 w 32 0 ∧ wJ5 w 32 0 ≤ 9 := by have := q3.2.2; unfold jpOk at this; exact this
    obtain ⟨wA, wO, wC⟩ := sNJ_W h.2.1 h.2.2.1 (by omega) a1 a2 a3
    have e : wJob W7 (wJ1 w 32 0) (wJ3 w 32 0) (wJ5 w 32 0) 0 = sNJ (w 0) (wJ1 w 32 0) (wJ3 w 32 0) (wJ5 w 32 0) := by rw [wJob_0, e0]
    refine ⟨⟨⟨S.1.1.eq (wJob_f (by decide)) (wJob_f (by decide)) (wJob_f (by decide)) (wJob_f (by decide)), by rw [e]; exact wA, by rw [e]; exact wO, by rw [wJob_f (by decide)]; exact S.1.2.2.2.1, by rw [wJob_f (by decide)]; exact S.1.2.2.2.2⟩, by rw [wJob_f (by decide)]; exact S.2.1, fun q => by rw [wJob_f (by decide)]; exact S.2.2.1 q, fun o q => by rw [e]; exact wC o q, fun f hf => by rw [wJob_f (fun e => hf (by rw [e]; decide))]; exact S.2.2.2.2 f hf⟩, fun _ _ => ?_⟩
    rw [e, e0, show sNJ (w 0) (wJ1 w 32 0) (wJ3 w 32 0) (wJ5 w 32 0) 0 = w 0 0 + 1 from if_pos rfl]
    omega
  · exact ⟨S, fun q1 q2 => absurd ⟨q1, q2⟩ c⟩
theorem tw_readJob {w : tW} {job : Int} (h : rdJ w) (hjb : 0 ≤ job ∧ job ≤ 1000) : tMv yX4_readJob cX4_readJob 8 5 [.int (iI job)] w (rJb w job) := by
  refine zMet.of (by decide) (Nat.le_of_ble_eq_true rfl) fun X K => ?_
  obtain ⟨r1, r2, r3, r4, r5, r6, n1, n3, n5, hp, ff⟩ := wJ_ok h.1
  have e0 : wJ6 w 0 = w 0 := ff 0 (by decide) (by decide) (by decide)
  have e33 : wJ6 w 33 = w 33 := ff 33 (by decide) (by decide) (by decide)
  have h05 := h.2.1.1.1
  have h33 := h.2.2.2.1
  have k121 : ∀ W7 W made, rJ7 w job W7 → rJ8 w W7 W made → ∀ env, zsub env [(0, .ref 1000), (1, .int (iI job)), (5, .int (iI made)), (6, .int (iI 0)), (7, .int (iI 1))] → zW X (zPv fun h' => ∃ w', h' = tH w' ∧ rJb w job w') (tH W) 0 0 121 env [] := fun W7 W made h7 h8 => by
    have S := rJ8_ok h hjb h7 h8
    refine tw_rdLoop K hjb ((W 5 0 - W 30 0).toNat + 1) 0 W S.1.1 (fun q1 q2 => S.2 q2 ?_) (by omega) (fun n w' q => ⟨W7, W, made, n, h7, h8, q⟩)
    rcases h8 with ⟨c, -, -⟩ | ⟨-, e, -⟩
    · exact c.2
    · rw [← e]; exact q1
  have k86 : ∀ W7, rJ7 w job W7 → ∀ env, zsub env [(0, .ref 1000), (1, .int (iI job)), (2, .int (iI (wJ1 w 32 0))), (3, .int (iI (wJ3 w 32 0))), (4, .int (iI (wJ5 w 32 0)))] → zW X (zPv fun h' => ∃ w', h' = tH w' ∧ rJb w job w') (tH W7) 0 0 86 env [] := fun W7 h7 env he => by
    refine zW.cut he ?_
    obtain ⟨S, f0, hok⟩ := rJ7_ok h hjb h7
    have g33 := S.1.2.2.2.1
    have g31 := S.1.1.2.2.1
    have kA := fun c => k121 W7 _ _ h7 (Or.inl ⟨c, rfl, rfl⟩)
    have kB := fun c => k121 W7 _ _ h7 (Or.inr ⟨c, rfl, rfl⟩)
    clear k121
    refine z_aload_n K dX4_readJob_86 rfl rfl rfl ?_
    refine t_geti K fd_X4_302_0 (by decide) rfl dX4_readJob_87 ?_
    refine j_iconst K dX4_readJob_90 ?_
    refine j_icmp_ne (tgt := 112) K dX4_readJob_91 rfl (by omega) (by omega) (fun c_91 => ?_) (fun c_91 => ?_)
    · have zz := kB (fun q => c_91 q.1)
      refine j_iconst K dX4_readJob_112 ?_
      refine z_istore K dX4_readJob_113 (by decide) rfl ?_
      refine j_iconst K dX4_readJob_115 ?_
      refine z_istore K dX4_readJob_116 (by decide) rfl ?_
      refine j_iconst K dX4_readJob_118 ?_
      refine z_istore K dX4_readJob_119 (by decide) rfl ?_
      exact zz _ ⟨rfl, rfl, rfl, rfl, rfl, trivial⟩
    · refine z_aload_n K dX4_readJob_94 rfl rfl rfl ?_
      refine t_geti K fd_X4_292_0 (by decide) rfl dX4_readJob_95 ?_
      refine j_if_ge (tgt := 112) K dX4_readJob_98 rfl (by omega) (fun c_98 => ?_) (fun c_98 => ?_)
      · have zz := kB (fun q => by omega)
        refine j_iconst K dX4_readJob_112 ?_
        refine z_istore K dX4_readJob_113 (by decide) rfl ?_
        refine j_iconst K dX4_readJob_115 ?_
        refine z_istore K dX4_readJob_116 (by decide) rfl ?_
        refine j_iconst K dX4_readJob_118 ?_
        refine z_istore K dX4_readJob_119 (by decide) rfl ?_
        exact zz _ ⟨rfl, rfl, rfl, rfl, rfl, trivial⟩
      · have zz := kA ⟨by omega, c_98⟩
        refine z_aload_n K dX4_readJob_101 rfl rfl rfl ?_
        refine z_iload_n K dX4_readJob_102 rfl rfl ?_
        refine z_iload_n K dX4_readJob_103 rfl rfl ?_
        refine z_iload K dX4_readJob_104 rfl ?_
        refine t_calli K (tw_createJob (w := W7) (by rw [f0]; have := (hok (by omega)).2.1; omega)) cV_X4_102_X4 rfl rfl (by decide) (Nat.le_of_ble_eq_true rfl) (Nat.le_refl _) (Nat.le_refl _) dX4_readJob_106 ?_
        rintro _ _ ⟨rfl, rfl⟩
        refine z_goto (tgt := 113) K dX4_readJob_109 rfl ?_
        refine z_istore K dX4_readJob_113 (by decide) rfl ?_
        refine j_iconst K dX4_readJob_115 ?_
        refine z_istore K dX4_readJob_116 (by decide) rfl ?_
        refine j_iconst K dX4_readJob_118 ?_
        refine z_istore K dX4_readJob_119 (by decide) rfl ?_
        exact zz _ ⟨rfl, rfl, rfl, rfl, rfl, trivial⟩
  have e0n : (0 : Int).toNat = 0 := rfl
  refine z_aload_n K dX4_readJob_0 rfl rfl rfl ?_
  refine j_iconst K dX4_readJob_1 ?_
  refine t_callv K (tw_readNumber (q := 3) (by omega) h.1) cV_X4_311_X4 rfl rfl (by decide) (Nat.le_of_ble_eq_true rfl) (Nat.le_refl _) (Nat.le_refl _) dX4_readJob_2 ?_
  rintro _ rfl
  rw [show wNum w 3 = wJ1 w from rfl]
  refine z_aload_n K dX4_readJob_5 rfl rfl rfl ?_
  refine t_geti K fd_X4_289_0 (by decide) rfl dX4_readJob_6 ?_
  refine z_istore_n K dX4_readJob_9 rfl (by decide) rfl ?_
  refine z_aload_n K dX4_readJob_10 rfl rfl rfl ?_
  refine j_bipush K dX4_readJob_11 (by decide +kernel) ?_
  refine t_callv K (tw_wants (c := 44) (by omega) r1) cV_X4_314_X4 rfl rfl (by decide) (Nat.le_of_ble_eq_true rfl) (Nat.le_refl _) (Nat.le_refl _) dX4_readJob_13 ?_
  rintro _ rfl
  rw [show wWants (wJ1 w) 44 = wJ2 w from rfl]
  refine z_aload_n K dX4_readJob_16 rfl rfl rfl ?_
  refine j_iconst K dX4_readJob_17 ?_
  refine t_callv K (tw_readNumber (q := 3) (by omega) r2) cV_X4_311_X4 rfl rfl (by decide) (Nat.le_of_ble_eq_true rfl) (Nat.le_refl _) (Nat.le_refl _) dX4_readJob_18 ?_
  rintro _ rfl
  rw [show wNum (wJ2 w) 3 = wJ3 w from rfl]
  refine z_aload_n K dX4_readJob_21 rfl rfl rfl ?_
  refine t_geti K fd_X4_289_0 (by decide) rfl dX4_readJob_22 ?_
  refine z_istore_n K dX4_readJob_25 rfl (by decide) rfl ?_
  refine z_aload_n K dX4_readJob_26 rfl rfl rfl ?_
  refine j_bipush K dX4_readJob_27 (by decide +kernel) ?_
  refine t_callv K (tw_wants (c := 44) (by omega) r3) cV_X4_314_X4 rfl rfl (by decide) (Nat.le_of_ble_eq_true rfl) (Nat.le_refl _) (Nat.le_refl _) dX4_readJob_29 ?_
  rintro _ rfl
  rw [show wWants (wJ3 w) 44 = wJ4 w from rfl]
  refine z_aload_n K dX4_readJob_32 rfl rfl rfl ?_
  refine j_iconst K dX4_readJob_33 ?_
  refine t_callv K (tw_readNumber (q := 3) (by omega) r4) cV_X4_311_X4 rfl rfl (by decide) (Nat.le_of_ble_eq_true rfl) (Nat.le_refl _) (Nat.le_refl _) dX4_readJob_34 ?_
  rintro _ rfl
  rw [show wNum (wJ4 w) 3 = wJ5 w from rfl]
  refine z_aload_n K dX4_readJob_37 rfl rfl rfl ?_
  refine t_geti K fd_X4_289_0 (by decide) rfl dX4_readJob_38 ?_
  refine z_istore K dX4_readJob_41 (by decide) rfl ?_
  refine z_aload_n K dX4_readJob_43 rfl rfl rfl ?_
  refine j_bipush K dX4_readJob_44 (by decide +kernel) ?_
  refine t_callv K (tw_wants (c := 58) (by omega) r5) cV_X4_314_X4 rfl rfl (by decide) (Nat.le_of_ble_eq_true rfl) (Nat.le_refl _) (Nat.le_refl _) dX4_readJob_46 ?_
  rintro _ rfl
  rw [show wWants (wJ5 w) 58 = wJ6 w from rfl]
  refine z_aload_n K dX4_readJob_49 rfl rfl rfl ?_
  refine t_geta K fd_X4_9_0 rfl dX4_readJob_50 ?_
  refine j_iconst K dX4_readJob_53 ?_
  refine t_ild K 0 203 rfl rfl rfl (by omega) (by omega) rfl dX4_readJob_54 ?_
  refine j_iconst K dX4_readJob_55 ?_
  rw [e0n, e0]
  refine j_icmp_ne (tgt := 69) K dX4_readJob_56 rfl (by omega) (by omega) (fun c_56 => ?_) (fun c_56 => ?_)
  · refine z_iload_n K dX4_readJob_69 rfl rfl ?_
    refine z_iload_n K dX4_readJob_70 rfl rfl ?_
    refine z_iload K dX4_readJob_71 rfl ?_
    refine z_calls K (s_areJobProperties (by omega) (by omega) (by omega)) cS_X4_98 rfl rfl (by decide) (Nat.le_of_ble_eq_true rfl) (Nat.le_refl _) (Nat.le_refl _) dX4_readJob_73 ?_
    refine j_if_ne (tgt := 86) K dX4_readJob_76 rfl (bP_r _) (fun c_76 => ?_) (fun c_76 => ?_)
    · have zz := k86 (wJ6 w) (Or.inr (Or.inr ⟨c_56, Classical.byContradiction fun q => c_76 (bP_f q), rfl⟩))
      (try (have zz := k86 w9 (Or.inr (Or.inl ⟨c_56, hnk, hw9⟩))))
      exact zz _ ⟨rfl, rfl, rfl, rfl, rfl, trivial⟩
    · have hnk := bP_n c_76
      refine z_aload_n K dX4_readJob_79 rfl rfl rfl ?_
      refine z_iload_n K dX4_readJob_80 rfl rfl ?_
      refine j_iconst K dX4_readJob_81 ?_
      refine j_iconst K dX4_readJob_82 ?_
      refine t_callv K (tw_cannot (w := wJ6 w) (by rw [e33]; exact h33)) cV_X4_318_X4 rfl rfl (by decide) (Nat.le_of_ble_eq_true rfl) (Nat.le_refl _) (Nat.le_refl _) dX4_readJob_83 ?_
      rintro w9 hw9
      (try (have zz := k86 w9 (Or.inr (Or.inl ⟨c_56, hnk, hw9⟩))))
      exact zz _ ⟨rfl, rfl, rfl, rfl, rfl, trivial⟩
  · refine z_aload_n K dX4_readJob_59 rfl rfl rfl ?_
    refine z_iload_n K dX4_readJob_60 rfl rfl ?_
    refine j_iconst K dX4_readJob_61 ?_
    refine j_iconst K dX4_readJob_62 ?_
    refine t_callv K (tw_cannot (w := wJ6 w) (by rw [e33]; exact h33)) cV_X4_318_X4 rfl rfl (by decide) (Nat.le_of_ble_eq_true rfl) (Nat.le_refl _) (Nat.le_refl _) dX4_readJob_63 ?_
    rintro w9 hw9
    have zz := k86 w9 (Or.inl ⟨c_56, hw9⟩)
    refine z_goto (tgt := 86) K dX4_readJob_66 rfl ?_
    (try (have zz := k86 w9 (Or.inr (Or.inl ⟨c_56, hnk, hw9⟩))))
    exact zz _ ⟨rfl, rfl, rfl, rfl, rfl, trivial⟩

