/-! ===== failures are made ===== -/
theorem Am.up {h : zH} (hA : Am h) {q : Nat} {c : zC} (h8 : 1000 ≤ q) : Am (zup h q c) := hA.ext (N := 1000) (fun m hm => zup_ne (by omega)) (by decide)
section XFl
variable {h : zH} {q ci : Nat} {C : String} {fs : List Value}
theorem je_init (th : zthr ci C) (tf : thFd ci) (hA : Am h) (hq : h q = some (.inr (ci, .null :: .null :: .null :: .null :: .null :: fs))) (h8 : 1000 ≤ q) : zMet yJ11_init (ws_ yJ11_init cJ11_init 1 none) 3 [.ref q] h (zVd (zup h q (.inr (ci, thL h (.ref q) fs)))) 0 0 := by
  have hc := jt_init th tf hA hq h8
  refine zMet.of (by decide) (Nat.le_of_ble_eq_true rfl) fun X K => ?_
  refine z_aload_n K dJ11_init_0 rfl rfl rfl ?_
  refine z_cI (fs := []) K (hc) cI_J11_1 rfl rfl (by omega) (by omega) (by omega) (Nat.le_of_ble_eq_true rfl) dJ11_init_1 zvX (zvK ?_)
  exact z_vret K (by omega) (by omega) (⟨rfl, rfl⟩) dJ11_init_4
theorem je_init3 {c : Value} (hc : zisr c = true) (th : zthr ci C) (tf : thFd ci) (hA : Am h) (hq : h q = some (.inr (ci, .null :: .null :: .null :: .null :: .null :: fs))) (h8 : 1000 ≤ q) : zMet yJ11_init_3 (ws_ yJ11_init_3 cJ11_init_3 3 none) 3 [.ref q, .null, c] h (zVd (zup h q (.inr (ci, thL h c fs)))) 0 0 := by
  have hcl := jt_init3 hc th tf hA hq h8
  have hsz : (lg_sl [.ref q, .null, c]).length ≤ 3 := by
    cases c with
    | ref b => exact Nat.le_of_ble_eq_true rfl
    | null => exact Nat.le_of_ble_eq_true rfl
    | _ => cases hc
  refine zMet.of (by decide) hsz fun X K => ?_
  have e : lv_args 0 [.ref q, .null, c] = [(0, .ref q), (1, .null), (2, c)] := by
    cases c with
    | ref b => rfl
    | null => rfl
    | _ => cases hc
  rw [e]
  refine z_aload_n K dJ11_init_3_0 rfl rfl rfl ?_
  refine z_aload_n K dJ11_init_3_1 rfl rfl rfl ?_
  refine z_aload_n K dJ11_init_3_2 rfl rfl hc ?_
  refine z_cI (fs := []) K (hcl) cI_J11_10 rfl rfl (by omega) (by omega) (by omega) (Nat.le_of_ble_eq_true rfl) dJ11_init_3_3 zvX (zvK ?_)
  exact z_vret K (by omega) (by omega) (⟨rfl, rfl⟩) dJ11_init_3_6
theorem jr_init (th : zthr ci C) (tf : thFd ci) (hA : Am h) (hq : h q = some (.inr (ci, .null :: .null :: .null :: .null :: .null :: fs))) (h8 : 1000 ≤ q) : zMet yJ12_init (ws_ yJ12_init cJ12_init 1 none) 4 [.ref q] h (zVd (zup h q (.inr (ci, thL h (.ref q) fs)))) 0 0 := by
  have hc := je_init th tf hA hq h8
  refine zMet.of (by decide) (Nat.le_of_ble_eq_true rfl) fun X K => ?_
  refine z_aload_n K dJ12_init_0 rfl rfl rfl ?_
  refine z_cI (fs := []) K (hc) cI_J12_1 rfl rfl (by omega) (by omega) (by omega) (Nat.le_of_ble_eq_true rfl) dJ12_init_1 zvX (zvK ?_)
  exact z_vret K (by omega) (by omega) (⟨rfl, rfl⟩) dJ12_init_4
theorem j13_init (hA : Am h) (hq : h q = some (.inr (22, [.null, .null, .null, .null, .null, .int 0]))) (h8 : 1000 ≤ q) : zMet yJ13_init (ws_ yJ13_init cJ13_init 1 none) 5 [.ref q] h (zVd (zup h q (.inr (22, thL h (.ref q) [.int 0])))) 0 0 := by
  have hc := jr_init thr_22 thfd_22 hA hq h8
  refine zMet.of (by decide) (Nat.le_of_ble_eq_true rfl) fun X K => ?_
  refine z_aload_n K dJ13_init_0 rfl rfl rfl ?_
  refine z_cI (fs := []) K (hc) cI_J13_1 rfl rfl (by omega) (by omega) (by omega) (Nat.le_of_ble_eq_true rfl) dJ13_init_1 zvX (zvK ?_)
  exact z_vret K (by omega) (by omega) (⟨rfl, rfl⟩) dJ13_init_4
theorem j14_init (hA : Am h) (hq : h q = some (.inr (23, [.null, .null, .null, .null, .null, .int 0]))) (h8 : 1000 ≤ q) : zMet yJ14_init (ws_ yJ14_init cJ14_init 1 none) 5 [.ref q] h (zVd (zup h q (.inr (23, thL h (.ref q) [.int 0])))) 0 0 := by
  have hc := jr_init thr_23 thfd_23 hA hq h8
  refine zMet.of (by decide) (Nat.le_of_ble_eq_true rfl) fun X K => ?_
  refine z_aload_n K dJ14_init_0 rfl rfl rfl ?_
  refine z_cI (fs := []) K (hc) cI_J14_1 rfl rfl (by omega) (by omega) (by omega) (Nat.le_of_ble_eq_true rfl) dJ14_init_1 zvX (zvK ?_)
  exact z_vret K (by omega) (by omega) (⟨rfl, rfl⟩) dJ14_init_4
theorem j15_init (hA : Am h) (hq : h q = some (.inr (24, [.null, .null, .null, .null, .null, .int 0]))) (h8 : 1000 ≤ q) : zMet yJ15_init_2 (ws_ yJ15_init_2 cJ15_init_2 1 none) 5 [.ref q] h (zVd (zup h q (.inr (24, thL h (.ref q) [.int 0])))) 0 0 := by
  have hc := jr_init thr_24 thfd_24 hA hq h8
  refine zMet.of (by decide) (Nat.le_of_ble_eq_true rfl) fun X K => ?_
  refine z_aload_n K dJ15_init_2_0 rfl rfl rfl ?_
  refine z_cI (fs := []) K (hc) cI_J15_1 rfl rfl (by omega) (by omega) (by omega) (Nat.le_of_ble_eq_true rfl) dJ15_init_2_1 zvX (zvK ?_)
  exact z_vret K (by omega) (by omega) (⟨rfl, rfl⟩) dJ15_init_2_4
theorem j19_init (hA : Am h) (hq : h q = some (.inr (25, [.null, .null, .null, .null, .null, .int 0]))) (h8 : 1000 ≤ q) : zMet yJ19_init (ws_ yJ19_init cJ19_init 1 none) 5 [.ref q] h (zVd (zup h q (.inr (25, thL h (.ref q) [.int 0])))) 0 0 := by
  have hc := jr_init thr_25 thfd_25 hA hq h8
  refine zMet.of (by decide) (Nat.le_of_ble_eq_true rfl) fun X K => ?_
  refine z_aload_n K dJ19_init_0 rfl rfl rfl ?_
  refine z_cI (fs := []) K (hc) cI_J19_1 rfl rfl (by omega) (by omega) (by omega) (Nat.le_of_ble_eq_true rfl) dJ19_init_1 zvX (zvK ?_)
  exact z_vret K (by omega) (by omega) (⟨rfl, rfl⟩) dJ19_init_4
/-- where a failure's code lies -/
def thC (ci j : Nat) : Prop := zfd RX8 7 ci j ∧ zmay yX8_init ci j ∧ zmay yX8_init_2 ci j ∧ zfty ci j = .int
theorem thc_7 : thC 7 6 := ⟨fd_X8_7_7, ⟨_, rfl, Or.inr ⟨rfl, rfl, rfl⟩⟩, ⟨_, rfl, Or.inr ⟨rfl, rfl, rfl⟩⟩, rfl⟩
theorem thc_8 : thC 8 5 := ⟨fd_X8_7_8, ⟨_, rfl, Or.inr ⟨rfl, rfl, rfl⟩⟩, ⟨_, rfl, Or.inr ⟨rfl, rfl, rfl⟩⟩, rfl⟩
theorem thc_14 : thC 14 5 := ⟨fd_X8_7_14, ⟨_, rfl, Or.inr ⟨rfl, rfl, rfl⟩⟩, ⟨_, rfl, Or.inr ⟨rfl, rfl, rfl⟩⟩, rfl⟩
theorem thc_16 : thC 16 5 := ⟨fd_X8_7_16, ⟨_, rfl, Or.inr ⟨rfl, rfl, rfl⟩⟩, ⟨_, rfl, Or.inr ⟨rfl, rfl, rfl⟩⟩, rfl⟩
theorem thc_17 : thC 17 5 := ⟨fd_X8_7_17, ⟨_, rfl, Or.inr ⟨rfl, rfl, rfl⟩⟩, ⟨_, rfl, Or.inr ⟨rfl, rfl, rfl⟩⟩, rfl⟩
theorem x8_init {j : Nat} {k : Int} (th : zthr ci C) (tf : thFd ci) (tc : thC ci j) (hj : j < 5 + fs.length) (hA : Am h) (hq : h q = some (.inr (ci, .null :: .null :: .null :: .null :: .null :: fs))) (h8 : 1000 ≤ q) : zMet yX8_init (ws_ yX8_init cX8_init 2 none) 4 [.ref q, .int (iI k)] h (zVd (zup h q (.inr (ci, (thL h (.ref q) fs).set j (.int (iI k)))))) 0 0 := by
  have hc := je_init th tf hA hq h8
  have hl : j < (thL h (.ref q) fs).length := by show j < fs.length + 5; omega
  obtain ⟨t1, t2, -, t4⟩ := tc
  refine zMet.of (by decide) (Nat.le_of_ble_eq_true rfl) fun X K => ?_
  refine z_aload_n K dX8_init_0 rfl rfl rfl ?_
  refine z_cI (fs := []) K (hc) cI_X8_1 rfl rfl (by omega) (by omega) (by omega) (Nat.le_of_ble_eq_true rfl) dX8_init_1 zvX (zvK ?_)
  refine z_aload_n K dX8_init_4 rfl rfl rfl ?_
  refine z_iload_n K dX8_init_5 rfl rfl ?_
  refine z_putE K t1 t2 (zup_at _ _ _) h8 hl (by rw [t4]; exact zf_i) dX8_init_6 zup_zup ?_
  exact z_vret K (by omega) (by omega) (⟨rfl, rfl⟩) dX8_init_9
theorem x8_init2 {j : Nat} {k : Int} {c : Value} (hcr : zisr c = true) (th : zthr ci C) (tf : thFd ci) (tc : thC ci j) (hj : j < 5 + fs.length) (hA : Am h) (hq : h q = some (.inr (ci, .null :: .null :: .null :: .null :: .null :: fs))) (h8 : 1000 ≤ q) : zMet yX8_init_2 (ws_ yX8_init_2 cX8_init_2 3 none) 4 [.ref q, .int (iI k), c] h (zVd (zup h q (.inr (ci, (thL h c fs).set j (.int (iI k)))))) 0 0 := by
  have hc := je_init3 hcr th tf hA hq h8
  have hl : j < (thL h c fs).length := by show j < fs.length + 5; omega
  obtain ⟨t1, -, t2, t4⟩ := tc
  have hsz : (lg_sl [.ref q, .int (iI k), c]).length ≤ 3 := by
    cases c with
    | ref b => exact Nat.le_of_ble_eq_true rfl
    | null => exact Nat.le_of_ble_eq_true rfl
    | _ => cases hcr
  refine zMet.of (by decide) hsz fun X K => ?_
  have e : lv_args 0 [.ref q, .int (iI k), c] = [(0, .ref q), (1, .int (iI k)), (2, c)] := by
    cases c with
    | ref b => rfl
    | null => rfl
    | _ => cases hcr
  rw [e]
  refine z_aload_n K dX8_init_2_0 rfl rfl rfl ?_
  refine z_null K dX8_init_2_1 ?_
  refine z_aload_n K dX8_init_2_2 rfl rfl hcr ?_
  refine z_cI (fs := []) K (hc) cI_X8_13 rfl rfl (by omega) (by omega) (by omega) (Nat.le_of_ble_eq_true rfl) dX8_init_2_3 zvX (zvK ?_)
  refine z_aload_n K dX8_init_2_6 rfl rfl rfl ?_
  refine z_iload_n K dX8_init_2_7 rfl rfl ?_
  refine z_putE K t1 t2 (zup_at _ _ _) h8 hl (by rw [t4]; exact zf_i) dX8_init_2_8 zup_zup ?_
  exact z_vret K (by omega) (by omega) (⟨rfl, rfl⟩) dX8_init_2_11
theorem x8_code {j : Nat} {k : Int} {l : List Value} (tc : thC ci j) (hq : h q = some (.inr (ci, l))) (hk : l[j]? = some (.int (iI k))) : zMet yX8_code (ws_ yX8_code cX8_code 1 (some .int)) 1 [.ref q] h (zRet (.int (iI k)) h) 0 0 := by
  refine zMet.of (by decide) (Nat.le_of_ble_eq_true rfl) fun X K => ?_
  refine z_aload_n K dX8_code_0 rfl rfl rfl ?_
  refine z_get K tc.1 hq hk dX8_code_1 ?_
  exact z_iret K (by omega) (by omega) (⟨rfl, rfl⟩) dX8_code_4
/-- a failure by itself; with a cause -/
abbrev f7 (h : zH) (c : Value) (k : Int) : zC := .inr (7, thL h c [.int 0, .int (iI k)])
abbrev f8 (ci : Nat) (h : zH) (c : Value) (k : Int) : zC := .inr (ci, thL h c [.int (iI k), .int 0])
abbrev f14 (h : zH) (c : Value) (k p : Int) : zC := .inr (14, thL h c [.int (iI k), .int 0, .int (iI p)])
/-- the cells of a failure with causes, at a, b -/
theorem zup_r2 {x x' y y' z : zC} {a b : Nat} (hab : a ≠ b) (haq : a ≠ q) (hbq : b ≠ q) : zup (zup (zup (zup (zup h a x) b y) b y') a x') q z = zup (zup (zup h a x') b y') q z := by
  funext m
  by_cases e : m = q
  · subst e; rw [zup_at, zup_at]
  · rw [zup_ne e, zup_ne e]
    by_cases e1 : m = a
    · subst e1; rw [zup_at, zup_ne hab, zup_at]
    · rw [zup_ne e1]
      by_cases e2 : m = b
      · subst e2; rw [zup_at, zup_at]
      · rw [zup_ne e2, zup_ne e2, zup_ne e1, zup_ne e2, zup_ne e1]
theorem x9_init {a b : Nat} {lo mn : Int} (hA : Am h) (hq : h q = some (.inr (8, [.null, .null, .null, .null, .null, .int 0, .int 0]))) (ha : h a = none) (hb : h b = none) (hab : a ≠ b) (q8 : 1000 ≤ q) (a8 : 1000 ≤ a) (b8 : 1000 ≤ b) : zMet yX9_init (ws_ yX9_init cX9_init 3 none) 5 [.ref q, .int (iI lo), .int (iI mn)] h (zVd (zup (zup (zup h a (f7 h (.ref b) (100 + lo))) b (f7 h (.ref b) mn)) q (f8 8 h (.ref a) 1))) 2 14 := by
  have haq : a ≠ q := fun e => by rw [e, hq] at ha; cases ha
  have hbq : b ≠ q := fun e => by rw [e, hq] at hb; cases hb
  have c1 := x8_init (h := zup (zup h a (.inr (7, [.null, .null, .null, .null, .null, .int 0, .int 0]))) b (.inr (7, [.null, .null, .null, .null, .null, .int 0, .int 0]))) (q := b) (k := mn) thr_7 thfd_7 thc_7 (by decide) ((hA.up a8).up b8) (zup_at _ _ _) b8
  rw [thL_up b8, thL_up a8] at c1
  have c2 := x8_init2 (h := zup (zup (zup h a (.inr (7, [.null, .null, .null, .null, .null, .int 0, .int 0]))) b (.inr (7, [.null, .null, .null, .null, .null, .int 0, .int 0]))) b (f7 h (.ref b) mn)) (q := a) (k := 100 + lo) (c := .ref b) rfl thr_7 thfd_7 thc_7 (by decide) (((hA.up a8).up b8).up b8) ((zup_ne hab).trans ((zup_ne hab).trans (zup_at _ _ _))) a8
  rw [thL_up b8, thL_up b8, thL_up a8] at c2
  have c3 := x8_init2 (h := zup (zup (zup (zup h a (.inr (7, [.null, .null, .null, .null, .null, .int 0, .int 0]))) b (.inr (7, [.null, .null, .null, .null, .null, .int 0, .int 0]))) b (f7 h (.ref b) mn)) a (f7 h (.ref b) (100 + lo))) (q := q) (k := 1) (c := .ref a) rfl thr_8 thfd_8 thc_8 (by decide) ((((hA.up a8).up b8).up b8).up a8) ((zup_ne haq.symm).trans ((zup_ne hbq.symm).trans ((zup_ne hbq.symm).trans ((zup_ne haq.symm).trans hq)))) q8
  rw [thL_up a8, thL_up b8, thL_up b8, thL_up a8] at c3
  refine zMet.of (by decide) (Nat.le_of_ble_eq_true rfl) fun X K => ?_
  refine z_aload_n K dX9_init_0 rfl rfl rfl ?_
  refine j_iconst K dX9_init_1 ?_
  refine z_new K (a) nw_X9_3 ha (by omega) (by omega) (by omega) dX9_init_2 ?_
  refine z_dup K dX9_init_5 rfl ?_
  refine j_bipush K dX9_init_6 (by decide +kernel) ?_
  refine z_iload_n K dX9_init_8 rfl rfl ?_
  refine j_iadd K dX9_init_9 ?_
  refine z_new K (b) nw_X9_3 ((zup_ne hab.symm).trans hb) (by omega) (by omega) (by omega) dX9_init_10 ?_
  refine z_dup K dX9_init_13 rfl ?_
  refine z_iload_n K dX9_init_14 rfl rfl ?_
  refine z_cI (fs := []) K (c1) cI_X9_5 rfl rfl (by omega) (by omega) (by omega) (Nat.le_of_ble_eq_true rfl) dX9_init_15 zvX (zvK ?_)
  refine z_cI (fs := []) K (c2) cI_X9_9 rfl rfl (by omega) (by omega) (by omega) (Nat.le_of_ble_eq_true rfl) dX9_init_18 zvX (zvK ?_)
  refine z_cI (fs := []) K (c3) cI_X9_9 rfl rfl (by omega) (by omega) (by omega) (Nat.le_of_ble_eq_true rfl) dX9_init_21 zvX (zvK ?_)
  exact z_vret K (by omega) (by omega) (⟨rfl, zup_r2 hab haq hbq⟩) dX9_init_24
theorem zup_r1 {x x' z : zC} {a : Nat} (haq : a ≠ q) : zup (zup (zup h a x) a x') q z = zup (zup h a x') q z := by rw [zup_zup]
theorem x15_init {a : Nat} {ps : Int} (hA : Am h) (hq : h q = some (.inr (14, [.null, .null, .null, .null, .null, .int 0, .int 0, .int 0]))) (ha : h a = none) (q8 : 1000 ≤ q) (a8 : 1000 ≤ a) : zMet yX15_init (ws_ yX15_init cX15_init 2 none) 5 [.ref q, .int (iI ps)] h (zVd (zup (zup h a (f7 h (.ref a) (100 + ps))) q (f14 h (.ref a) 2 ps))) 1 7 := by
  have haq : a ≠ q := fun e => by rw [e, hq] at ha; cases ha
  have c1 := x8_init (h := zup h a (.inr (7, [.null, .null, .null, .null, .null, .int 0, .int 0]))) (q := a) (k := 100 + ps) thr_7 thfd_7 thc_7 (by decide) (hA.up a8) (zup_at _ _ _) a8
  rw [thL_up a8, zup_zup] at c1
  have c2 := x8_init2 (h := zup h a (f7 h (.ref a) (100 + ps))) (q := q) (k := 2) (c := .ref a) rfl thr_14 thfd_14 thc_14 (by decide) (hA.up a8) ((zup_ne haq.symm).trans hq) q8
  rw [thL_up a8] at c2
  refine zMet.of (by decide) (Nat.le_of_ble_eq_true rfl) fun X K => ?_
  refine z_aload_n K dX15_init_0 rfl rfl rfl ?_
  refine j_iconst K dX15_init_1 ?_
  refine z_new K (a) nw_X15_3 ha (by omega) (by omega) (by omega) dX15_init_2 ?_
  refine z_dup K dX15_init_5 rfl ?_
  refine j_bipush K dX15_init_6 (by decide +kernel) ?_
  refine z_iload_n K dX15_init_8 rfl rfl ?_
  refine j_iadd K dX15_init_9 ?_
  refine z_cI (fs := []) K (c1) cI_X15_5 rfl rfl (by omega) (by omega) (by omega) (Nat.le_of_ble_eq_true rfl) dX15_init_10 zvX (zvK ?_)
  refine z_cI (fs := []) K (c2) cI_X15_9 rfl rfl (by omega) (by omega) (by omega) (Nat.le_of_ble_eq_true rfl) dX15_init_13 zvX (zvK ?_)
  refine z_aload_n K dX15_init_16 rfl rfl rfl ?_
  refine z_iload_n K dX15_init_17 rfl rfl ?_
  refine z_putE K fd_X15_12_14 (by first | exact ⟨_, rfl, Or.inl rfl⟩ | exact ⟨_, rfl, Or.inr ⟨rfl, rfl, rfl⟩⟩) ((zup_at _ _ _)) (by omega) (Nat.le_of_ble_eq_true rfl) (zf_i) dX15_init_18 (zup_zup) ?_
  exact z_vret K (by omega) (by omega) (⟨rfl, rfl⟩) dX15_init_21
theorem x17_init {k : Int} (hA : Am h) (hq : h q = some (.inr (16, [.null, .null, .null, .null, .null, .int 0, .int 0]))) (q8 : 1000 ≤ q) : zMet yX17_init (ws_ yX17_init cX17_init 2 none) 5 [.ref q, .int (iI k)] h (zVd (zup h q (f8 16 h (.ref q) k))) 0 0 := by
  have c1 := x8_init (h := h) (q := q) (k := k) thr_16 thfd_16 thc_16 (by decide) hA hq q8
  refine zMet.of (by decide) (Nat.le_of_ble_eq_true rfl) fun X K => ?_
  refine z_aload_n K dX17_init_0 rfl rfl rfl ?_
  refine z_iload_n K dX17_init_1 rfl rfl ?_
  refine z_cI (fs := []) K (c1) cI_X17_3 rfl rfl (by omega) (by omega) (by omega) (Nat.le_of_ble_eq_true rfl) dX17_init_2 zvX (zvK ?_)
  exact z_vret K (by omega) (by omega) (⟨rfl, rfl⟩) dX17_init_5
theorem x17_init2 {f : Nat} (hA : Am h) (hq : h q = some (.inr (16, [.null, .null, .null, .null, .null, .int 0, .int 0]))) (q8 : 1000 ≤ q) : zMet yX17_init_2 (ws_ yX17_init_2 cX17_init_2 2 none) 5 [.ref q, .ref f] h (zVd (zup h q (f8 16 h (.ref f) 3))) 0 0 := by
  have c1 := x8_init2 (h := h) (q := q) (k := 3) (c := .ref f) rfl thr_16 thfd_16 thc_16 (by decide) hA hq q8
  refine zMet.of (by decide) (Nat.le_of_ble_eq_true rfl) fun X K => ?_
  refine z_aload_n K dX17_init_2_0 rfl rfl rfl ?_
  refine j_iconst K dX17_init_2_1 ?_
  refine z_aload_n K dX17_init_2_2 rfl rfl rfl ?_
  refine z_cI (fs := []) K (c1) cI_X17_9 rfl rfl (by omega) (by omega) (by omega) (Nat.le_of_ble_eq_true rfl) dX17_init_2_3 zvX (zvK ?_)
  exact z_vret K (by omega) (by omega) (⟨rfl, rfl⟩) dX17_init_2_6
theorem x18_init {a f : Nat} {jb : Int} (hA : Am h) (hq : h q = some (.inr (17, [.null, .null, .null, .null, .null, .int 0, .int 0]))) (ha : h a = none) (q8 : 1000 ≤ q) (a8 : 1000 ≤ a) : zMet yX18_init (ws_ yX18_init cX18_init 3 none) 5 [.ref q, .int (iI jb), .ref f] h (zVd (zup (zup h a (f7 h (.ref f) (100 + jb))) q (f8 17 h (.ref a) 3))) 1 7 := by
  have haq : a ≠ q := fun e => by rw [e, hq] at ha; cases ha
  have c1 := x8_init2 (h := zup h a (.inr (7, [.null, .null, .null, .null, .null, .int 0, .int 0]))) (q := a) (k := 100 + jb) (c := .ref f) rfl thr_7 thfd_7 thc_7 (by decide) (hA.up a8) (zup_at _ _ _) a8
  rw [thL_up a8, zup_zup] at c1
  have c2 := x8_init2 (h := zup h a (f7 h (.ref f) (100 + jb))) (q := q) (k := 3) (c := .ref a) rfl thr_17 thfd_17 thc_17 (by decide) (hA.up a8) ((zup_ne haq.symm).trans hq) q8
  rw [thL_up a8] at c2
  refine zMet.of (by decide) (Nat.le_of_ble_eq_true rfl) fun X K => ?_
  refine z_aload_n K dX18_init_0 rfl rfl rfl ?_
  refine j_iconst K dX18_init_1 ?_
  refine z_new K (a) nw_X18_3 ha (by omega) (by omega) (by omega) dX18_init_2 ?_
  refine z_dup K dX18_init_5 rfl ?_
  refine j_bipush K dX18_init_6 (by decide +kernel) ?_
  refine z_iload_n K dX18_init_8 rfl rfl ?_
  refine j_iadd K dX18_init_9 ?_
  refine z_aload_n K dX18_init_10 rfl rfl rfl ?_
  refine z_cI (fs := []) K (c1) cI_X18_5 rfl rfl (by omega) (by omega) (by omega) (Nat.le_of_ble_eq_true rfl) dX18_init_11 zvX (zvK ?_)
  refine z_cI (fs := []) K (c2) cI_X18_5 rfl rfl (by omega) (by omega) (by omega) (Nat.le_of_ble_eq_true rfl) dX18_init_14 zvX (zvK ?_)
  exact z_vret K (by omega) (by omega) (⟨rfl, rfl⟩) dX18_init_17
end XFl

