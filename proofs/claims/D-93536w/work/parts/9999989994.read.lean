/-! ===== the component's operations: read; how it is made ===== -/
def rdE (w : tW) (v : Int) (w2 : tW) : Prop := ∃ w1, readQ w v w1 ∧ (∀ f, f ≠ 0 → w2 f = w1 f) ∧ (w1 3 0 = 0 → w2 0 = w1 0) ∧ (w1 3 0 ≠ 0 → w2 0 = w 0)
section XP9
variable {b N : Nat} {u w : tW} {g : zH}
theorem sb_new {T V : Nat} {h : zH} {t : Nat → Int} (h1 : h T = some (oSB V 0 0)) (h2 : h V = some (aB 16 fun _ => 0)) (h3 : T ≠ V) (h4 : 1000 ≤ V) : SBp h T V 16 0 0 (fun _ => 0) t := ⟨h1, h2, ⟨fun i hi => by omega, Or.inl ⟨rfl, by omega, fun i hi => by omega⟩⟩, Or.inl rfl, Or.inl ⟨rfl, by omega⟩, h3, h4⟩
/-- an exception is put in as the failure -/
theorem CG.flx {sv fl cl : Value} {T n q ci : Nat} {fs : List Value} {w' : tW} (h : CG b N u g w) (hx : g 1040 = some (oX b sv T fl cl (w 10 0))) (hc : fC b g (w' 6) n 0 q) (h7 : w' 7 0 = (n : Int) + 1) (hs : ∀ f, 1 ≤ f → f ≤ 10 → f ≠ 3 → f ≠ 6 → f ≠ 7 → w' f = w f) (h0 : w' 0 = w 0) : CX (zup (sH b u (zup g 1040 (oX b sv T (.ref q) cl (w 10 0)))) N (.inr (ci, fs))) w' :=
  (h.fl (c7 := w' 7) hx hc h7).up (fun f a b c => by
    by_cases z6 : f = 6
    · subst z6; rfl
    by_cases z7 : f = 7
    · subst z7; rfl
    · exact (hs f a b c z6 z7).trans ((if_neg z6).trans (if_neg z7)).symm) h0
theorem x1_read (hC : CG b N u g w) (h5 : 0 ≤ w 5 0 ∧ w 5 0 ≤ 80) (h4 : ∀ i : Nat, i < 80 → 0 ≤ w 4 i ∧ w 4 i ≤ 65535) (h34 : -1 ≤ w 34 0 ∧ w 34 0 ≤ 1000) : zMet yX1_read (wsW_ yX1_read cX1_read 3 (some .int) [(19, 24, 25, 327), (19, 24, 39, 329)]) 14 [.ref 1040] (sH b u g) (cQ (sH b u g) (rdE w) (cdA 22 23 99)) 2850 33500 := by
  have n8 := hC.n8
  have er := hC.row
  obtain ⟨a1, a2, a3, a4, a5, a6, a7, a8, a9, a10, sv, T, fl, cl, e1, e2, ⟨V, K9, cc, f, s1, s2, s3⟩, e6, e7⟩ := id hC
  have hx : sH b u g 1040 = some (oX b sv T fl cl (w 10 0)) := (sH_out (by omega)).trans e1
  have hT : sH b u g T = some (oSB V cc ((w 5 0).toNat : Nat)) := (sH_out s2.2).trans s1.1
  have hS : SBp (sH b u g) T V K9 cc (w 5 0).toNat f (w 4) := ⟨hT, (sH_out s3.2).trans s1.2.1, s1.2.2⟩
  have tN := a4.lt s1.1
  have vN := a4.lt s1.2.1
  obtain ⟨M, hM⟩ : ∃ M : Nat, (cc = 0 ∧ M = (w 5 0).toNat) ∨ (cc = 1 ∧ M = 2 * (w 5 0).toNat) := by
    rcases s1.c01 with z | z
    · exact ⟨_, Or.inl ⟨z, rfl⟩⟩
    · exact ⟨_, Or.inr ⟨z, rfl⟩⟩
  have kts := sb_toString (h := sH b u g) (s := N) (a := N + 1) (M := M) hC.fr n8.2.2.2 hS (by omega) hM ((sH_out (by omega)).trans (a4 _ (by omega))) (by omega) (by omega)
  rw [show zup (zup (sH b u g) (N + 1) (aB M f)) N (oStr (N + 1) cc) = sH b u (zup (zup g (N + 1) (aB M f)) N (oStr (N + 1) cc)) by rw [sH_upo (by omega), sH_upo (by omega)]] at kts
  have tx0 : TxH (zup (zup g (N + 1) (aB M f)) N (oStr (N + 1) cc)) N (N + 1) (w 4) (w 5 0).toNat := ⟨M, cc, f, zup_at _ _ _, (zup_ne (by omega)).trans (zup_at _ _ _), by omega, ⟨s1.2.2.1.1, s1.2.2.1.2.imp (fun z => ⟨z.1, by omega, z.2.2⟩) (fun z => ⟨z.1, by omega, z.2.2⟩)⟩, hM⟩
  have lo1 : ∀ m, m < N → zup (zup g (N + 1) (aB M f)) N (oStr (N + 1) cc) m = g m := fun m hm => (zup_ne (by omega)).trans (zup_ne (by omega))
  have tp1 : ∀ m, N + 2 ≤ m → zup (zup g (N + 1) (aB M f)) N (oStr (N + 1) cc) m = none := fun m hm => (zup_ne (by omega)).trans ((zup_ne (by omega)).trans (a4 m (by omega)))
  generalize zup (zup g (N + 1) (aB M f)) N (oStr (N + 1) cc) = g1 at kts tx0 lo1 tp1
  have kin := sb_init (h := zup (sH b u g1) (N + 2) (.inr (19, [.null, .int 0, .int 0, .int 0]))) (T := N + 2) (a := N + 3) (zup_at _ _ _) (by omega) ((zup_ne (by omega)).trans ((sH_out (by omega)).trans (tp1 _ (by omega)))) (by omega)
  rw [show zup (zup (zup (sH b u g1) (N + 2) (.inr (19, [.null, .int 0, .int 0, .int 0]))) (N + 3) (aB 16 fun _ => 0)) (N + 2) (oSB (N + 3) 0 0) = sH b u (zup (zup g1 (N + 3) (aB 16 fun _ => 0)) (N + 2) (oSB (N + 3) 0 0)) by rw [zup_comm (nm := N + 2) (n2 := N + 3) (c := .inr (19, [.null, .int 0, .int 0, .int 0])) (by omega), zup_zup, sH_upo (by omega), sH_upo (by omega)]] at kin
  obtain ⟨g2, hg2⟩ : ∃ g2, g2 = zup (zup (zup g1 (N + 3) (aB 16 fun _ => 0)) (N + 2) (oSB (N + 3) 0 0)) 1040 (oX b sv (N + 2) fl cl (w 10 0)) := ⟨_, rfl⟩
  have hset : zup (sH b u (zup (zup g1 (N + 3) (aB 16 fun _ => 0)) (N + 2) (oSB (N + 3) 0 0))) 1040 (oX b sv (N + 2) fl cl (w 10 0)) = sH b u g2 := by rw [hg2]; exact sH_upo (by omega)
  have lo2 : ∀ m, m < N + 2 → m ≠ 1040 → g2 m = g1 m := fun m m1 m2 => by rw [hg2]; exact (zup_ne m2).trans ((zup_ne (by omega)).trans (zup_ne (by omega)))
  have e40 : g2 1040 = some (oX b sv (N + 2) fl cl (w 10 0)) := by rw [hg2]; exact zup_at _ _ _
  have low : ∀ m, m < N → m ≠ 1040 → g2 m = g m := fun m m1 m2 => (lo2 m (by omega) m2).trans (lo1 m m1)
  have kpG : kp b N g g2 := fun m q1 q2 => low m q1 (by have := q2.1; omega)
  have ew : ∀ q, q ≠ 5 → tset w 5 0 0 q = w q := fun q q1 => tsG q1
  have hC2 : CG b (N + 4) u g2 (tset w 5 0 0) := by
    refine ⟨a1, by omega, a3.ext (N := 1000) (fun m q => low m (by omega) (by omega)) (by omega), fun m q => ?_, by rw [ew 0 (by decide)]; exact a5, a6, fun m i m0 m1 i0 i1 => ?_, a8, a9, a10, sv, N + 2, fl, cl, by rw [ew 10 (by decide)]; exact e40, e2.mv a4 kpG (Or.inl rfl) (by omega) (ew 2 (by decide)) (ew 1 (by decide)), ⟨N + 3, 16, 0, fun _ => 0, ?_, ⟨by omega, Or.inr (by omega)⟩, ⟨by omega, Or.inr (by omega)⟩⟩, e6.mv a4 kpG (Or.inl rfl) (ew 6 (by decide)) (ew 7 (by decide)), e7.mv a4 kpG (Or.inl rfl) (ew 8 (by decide)) (ew 9 (by decide))⟩
    · rw [hg2]; exact (zup_ne (by omega)).trans ((zup_ne (by omega)).trans ((zup_ne (by omega)).trans (tp1 m (by omega))))
    · obtain ⟨c1, c2, c3, c4⟩ := a7 m i m0 m1 i0 i1
      exact ⟨c1, c2, c3, (low _ (a4.lt c4) (fun e => by rw [e, e1] at c4; cases c4)).trans c4⟩
    · rw [show (tset w 5 0 0 5 0).toNat = 0 by rw [tset_s]; rfl]
      exact sb_new (by rw [hg2]; exact (zup_ne (by omega)).trans (zup_at _ _ _)) (by rw [hg2]; exact (zup_ne (by omega)).trans ((zup_ne (by omega)).trans (zup_at _ _ _))) (by omega) (by omega)
  have tx2 : TxH g2 N (N + 1) (w 4) (w 5 0).toNat := by
    obtain ⟨K8, c8, f8, y1, y2, y3⟩ := tx0
    exact ⟨K8, c8, f8, (lo2 N (by omega) (by omega)).trans y1, (lo2 (N + 1) (by omega) (by omega)).trans y2, y3⟩
  have kcr := x1_create hC2 tx2 ⟨by omega, Or.inr (by omega)⟩ ⟨by omega, Or.inr (by omega)⟩ (by omega)
  have hT5 := hC2.2.2.2.1
  have lk2 : sH b u g2 1040 = some (oX b sv (N + 2) fl cl (w 10 0)) := (sH_out (by omega)).trans e40
  have lkA : ∀ c, zup (sH b u g1) (N + 2) c 1040 = some (oX b sv T fl cl (w 10 0)) := fun c => (zup_ne (by omega)).trans ((sH_out (by omega)).trans ((lo1 1040 (by omega)).trans e1))
  have lkB : sH b u (zup (zup g1 (N + 3) (aB 16 fun _ => 0)) (N + 2) (oSB (N + 3) 0 0)) 1040 = some (oX b sv T fl cl (w 10 0)) := (sH_out (by omega)).trans ((zup_ne (by omega)).trans ((zup_ne (by omega)).trans ((lo1 1040 (by omega)).trans e1)))
  have fr2 : sH b u g1 (N + 2) = none := (sH_out (by omega)).trans (tp1 _ (by omega))
  -- the failure's world
  have hE : ∀ v' w', rdE w v' w' → ∃ w1, readQ w v' w1 ∧ (∀ f, f ≠ 0 → w' f = w1 f) ∧ (w1 3 0 = 0 → w' 0 = w1 0) ∧ (w1 3 0 ≠ 0 → w' 0 = w 0) := fun v' w' r => r
  have swv : ∀ w1 w' : tW, rdFr w w1 → (∀ f, f ≠ 0 → w' f = w1 f) → ∀ f, 1 ≤ f → f ≤ 10 → f ≠ 3 → f ≠ 6 → f ≠ 7 → w' f = tset w 5 0 0 f := fun w1 w' hr hw f f1 f2 f3 f6 f7 => by
    rw [hw f (by omega)]
    by_cases z : f = 5
    · rw [z]; exact hr.1
    · rw [hr.2 f (by omega), ew f z]
  have hlow : ∀ m, m < 1040 → g2 m = sH b u g m := fun m hm => (low m (by omega) (by omega)).trans (sH_out (by omega)).symm
  generalize hQ : cQ (sH b u g) (rdE w) (cdA 22 23 99) = Q
  have bad : ∀ (ci n M1 N' : Nat) (g3 : zH) (fs : List Value) (k : Int), cdA 22 23 99 ci = k → k ≠ 0 → zExt (N + 4) g2 g3 → zTop g3 N' → N + 4 ≤ N' → (∀ v' w1, readQ w v' w1 → w1 3 0 = k ∧ rdFr w w1 ∧ fC b g3 (w1 6) n 0 M1 ∧ w1 7 0 = (n : Int) + 1) → Q (.inr N') (zup (sH b u (zup g3 1040 (oX b sv (N + 2) (.ref M1) cl (w 10 0)))) N' (.inr (ci, fs))) := by
    intro ci n M1 N' g3 fs k hcd hk hge hgt hN' hr
    rw [← hQ]
    refine ⟨fun m hm => (zup_ne (by omega)).trans ((sH_out (by omega)).trans ((zup_ne (by omega)).trans ((hge m (by omega)).trans (hlow m hm)))), Or.inr ⟨N', ci, fs, rfl, zup_at _ _ _, by rw [hcd]; exact hk, fun v' w' r => ?_⟩⟩
    obtain ⟨w1, r1, r2, r3, r4⟩ := hE v' w' r
    obtain ⟨q1, q2, q3, q4⟩ := hr v' w1 r1
    have hC3 : CG b N' u g3 (tset w 5 0 0) := hC2.mv hge hgt hN' (fun _ _ _ _ => rfl) hC2.row hC2.2.2.2.2.2.1 (hC2.bk.ext hge hT5) rfl rfl id
    refine ⟨by rw [r2 3 (by decide), q1, hcd], ?_⟩
    have := hC3.flx (w' := w') (ci := ci) (fs := fs) (sv := sv) (T := N + 2) (fl := fl) (cl := cl) (q := M1) (n := n) (by rw [ew 10 (by decide)]; exact (hge 1040 (by omega)).trans e40) (by rw [r2 6 (by decide)]; exact q3) (by rw [r2 7 (by decide)]; exact q4) (swv w1 w' q2 r2) (by rw [r4 (by rw [q1]; exact hk), ew 0 (by decide)])
    rw [ew 10 (by decide)] at this
    exact this
  have good : ∀ (x : Nat × (Nat → tTJ)) (s' : Nat → Int) (b' : Nat) (u' : tW) (g' : zH) (N' : Nat), rdA (w 4) (w 5 0).toNat 20 0 J00 0 = .inl x → crA x.2 x.1 0 (w 0) = .inl s' → CG b' N' u' g' (wRow (tset w 5 0 0) s') → (∀ m, m < 1040 → g' m = g2 m) → Q (.inl (some (.int (iI x.1)))) (sH b' u' g') := by
    intro x s' b' u' g' N' h1 h2 hC' hl
    rw [← hQ]
    refine ⟨fun m hm => (hC'.lo m hm).trans ((hl m hm).trans (hlow m hm)), Or.inl ⟨_, rfl, fun v' w' r => ?_⟩⟩
    obtain ⟨w1, r1, r2, r3, r4⟩ := hE v' w' r
    have R := readT r1 h5 h4 h34 (er ▸ hC.A) (er ▸ hC.O)
    rw [h1] at R
    dsimp only at R
    rw [h2] at R
    obtain ⟨q1, q2, q3, q4, q5, q6⟩ := R
    refine ⟨by rw [r2 3 (by decide), q2], q1, hC'.same (fun f f1 f2 f3 => ?_) (by rw [r3 q2, q3, wRow_0])⟩
    rw [wRow_f (by omega)]
    by_cases z6 : f = 6
    · rw [z6, r2 6 (by decide), q4, ew 6 (by decide)]
    by_cases z7 : f = 7
    · rw [z7, r2 7 (by decide), q5, ew 7 (by decide)]
    exact swv w1 w' q6 r2 f f1 f2 f3 z6 z7
  clear hQ
  refine zMet.ofH (by decide) (Nat.le_of_ble_eq_true rfl) fun X K => ?_
  -- a failure is kept, an exception is thrown
  have hA3 : ∀ (g3 : zH) (M1 : Nat), zExt (N + 4) g2 g3 → Am (sH b u (zup g3 1040 (oX b sv (N + 2) (.ref M1) cl (w 10 0)))) := fun g3 M1 hge => (((hC2.2.2.1).ext hge (by omega)).up40).sh (by omega)
  have tf : ∀ (e : Int) (M1 : Nat) (g3 : zH) (N' : Nat), rdA (w 4) (w 5 0).toNat 20 0 J00 0 = .inr e → (∀ c : Nat → Int, c 0 = 2 → c 1 = 100 + e → fC b g3 c 1 0 M1) → zExt (N + 4) g2 g3 → zTop g3 N' → N + 4 ≤ N' → ∀ env, zsub env [(0, .ref 1040)] → zW X Q (sH b u g3) 2837 33200 25 env [.ref M1] := by
    intro e M1 g3 N' h1 hc hge hgt hN' env he
    refine zW.cut he ?_
    have lx : sH b u g3 1040 = some (oX b sv (N + 2) fl cl (w 10 0)) := (sH_out (by omega)).trans ((hge 1040 (by omega)).trans e40)
    have fr : sH b u (zup g3 1040 (oX b sv (N + 2) (.ref M1) cl (w 10 0))) N' = none := (sH_out (by omega)).trans ((zup_ne (by omega)).trans (hgt _ (Nat.le_refl _)))
    have k1 := j13_init (h := zup (sH b u (zup g3 1040 (oX b sv (N + 2) (.ref M1) cl (w 10 0)))) N' (.inr (22, [.null, .null, .null, .null, .null, .int 0]))) (q := N') ((hA3 g3 M1 hge).up (by omega)) (zup_at _ _ _) (by omega)
    rw [zup_zup] at k1
    have f2 := fun fs => bad 22 1 M1 N' g3 fs 1 rfl (by decide) hge hgt hN' (fun v' w1 r1 => by
      have R := readT r1 h5 h4 h34 (er ▸ hC.A) (er ▸ hC.O)
      rw [h1] at R
      obtain ⟨-, q2, q3, q4, q5, q6⟩ := R
      exact ⟨q2, q6, hc _ q4 q5, q3⟩)
    refine z_astore_n K dX1_read_25 rfl rfl (by decide) rfl ?_
    refine z_aload_n K dX1_read_26 rfl rfl rfl ?_
    refine z_aload_n K dX1_read_27 rfl rfl rfl ?_
    refine z_putE K fd_X1_228_1 ⟨_, rfl, Or.inl rfl⟩ (lx) (by omega) (Nat.le_of_ble_eq_true rfl) (zf_r) dX1_read_28 (sH_upo (by omega)) ?_
    refine z_new K (N') nw_X1_27 fr (by omega) (by omega) (by omega) dX1_read_31 ?_
    refine z_dup K dX1_read_34 rfl ?_
    refine z_cI (fs := []) K (k1) cI_X1_29 rfl rfl (by omega) (by omega) (by omega) (Nat.le_of_ble_eq_true rfl) dX1_read_35 zvX (zvK ?_)
    refine z_athrow K (zup_at _ _ _) rfl dX1_read_38 ?_
    exact z_out K rfl (by omega) (by omega) (f2 _)
  have rf : ∀ (x : Nat × (Nat → tTJ)) (y : Nat × Int × Int) (M1 : Nat) (g3 : zH) (N' : Nat), rdA (w 4) (w 5 0).toNat 20 0 J00 0 = .inl x → crA x.2 x.1 0 (w 0) = .inr y → (∀ c : Nat → Int, c 0 = 3 → c 1 = 100 + y.1 → c 2 = y.2.1 → (y.2.1 = 3 → c 3 = 100 + y.2.2) → fC b g3 c (if y.2.1 = 3 then 3 else 2) 0 M1) → zExt (N + 4) g2 g3 → zTop g3 N' → N + 4 ≤ N' → ∀ env, zsub env [(0, .ref 1040)] → zW X Q (sH b u g3) 2837 33200 39 env [.ref M1] := by
    intro x y M1 g3 N' h1 h2 hc hge hgt hN' env he
    refine zW.cut he ?_
    have lx : sH b u g3 1040 = some (oX b sv (N + 2) fl cl (w 10 0)) := (sH_out (by omega)).trans ((hge 1040 (by omega)).trans e40)
    have fr : sH b u (zup g3 1040 (oX b sv (N + 2) (.ref M1) cl (w 10 0))) N' = none := (sH_out (by omega)).trans ((zup_ne (by omega)).trans (hgt _ (Nat.le_refl _)))
    have k1 := j14_init (h := zup (sH b u (zup g3 1040 (oX b sv (N + 2) (.ref M1) cl (w 10 0)))) N' (.inr (23, [.null, .null, .null, .null, .null, .int 0]))) (q := N') ((hA3 g3 M1 hge).up (by omega)) (zup_at _ _ _) (by omega)
    rw [zup_zup] at k1
    have f2 := fun fs => bad 23 (if y.2.1 = 3 then 3 else 2) M1 N' g3 fs 2 rfl (by decide) hge hgt hN' (fun v' w1 r1 => by
      have R := readT r1 h5 h4 h34 (er ▸ hC.A) (er ▸ hC.O)
      rw [h1] at R
      dsimp only at R
      rw [h2] at R
      obtain ⟨-, q2, q3, q4, q5, q6, q7, q8⟩ := R
      exact ⟨q2, q8, hc _ q4 q5 q6 (fun _ => q7), by rw [q3]; by_cases z : y.2.1 = 3; rw [if_pos z, if_pos z]; rfl; rw [if_neg z, if_neg z]; rfl⟩)
    refine z_astore_n K dX1_read_39 rfl rfl (by decide) rfl ?_
    refine z_aload_n K dX1_read_40 rfl rfl rfl ?_
    refine z_aload_n K dX1_read_41 rfl rfl rfl ?_
    refine z_putE K fd_X1_228_1 ⟨_, rfl, Or.inl rfl⟩ (lx) (by omega) (Nat.le_of_ble_eq_true rfl) (zf_r) dX1_read_42 (sH_upo (by omega)) ?_
    refine z_new K (N') nw_X1_36 fr (by omega) (by omega) (by omega) dX1_read_45 ?_
    refine z_dup K dX1_read_48 rfl ?_
    refine z_cI (fs := []) K (k1) cI_X1_38 rfl rfl (by omega) (by omega) (by omega) (Nat.le_of_ble_eq_true rfl) dX1_read_49 zvX (zvK ?_)
    refine z_athrow K (zup_at _ _ _) rfl dX1_read_52 ?_
    exact z_out K rfl (by omega) (by omega) (f2 _)
  have seg : ∀ env, zsub env [(0, .ref 1040), (1, .ref N)] → zW X Q (sH b u g2) 6 190 19 env [] := by
    intro env he
    refine zW.cut he ?_
    rcases hrd : rdA (w 4) (w 5 0).toNat 20 0 J00 0 with x | e
    · rcases hcr : crA x.2 x.1 0 (w 0) with s' | y
      · have kc2 := kcr.weaken (Q' := fun z h' => ∃ b' u' g' N', z = .inl (some (.int (iI x.1))) ∧ h' = sH b' u' g' ∧ CG b' N' u' g' (wRow (tset w 5 0 0) s') ∧ ∀ m, m < 1040 → g' m = g2 m) (fun z h' hq => by
          unfold crQ at hq
          rw [hrd] at hq
          dsimp only at hq
          rw [er, hcr] at hq
          exact hq)
        refine z_aload_n K dX1_read_19 rfl rfl rfl ?_
        refine z_aload_n K dX1_read_20 rfl rfl rfl ?_
        refine z_callV K (kc2) cV_X1_324_X1 (lk2) rfl rfl rfl (by omega) (by omega) (by omega) (Nat.le_of_ble_eq_true rfl) dX1_read_21 (fun q h1 hq => by obtain ⟨_, _, _, _, z, -⟩ := hq; cases z) ?_
        rintro v h1 ⟨b', u', g', N', z, rfl, hC', hl⟩
        cases z
        exact z_iret K (by omega) (by omega) (good x s' b' u' g' N' hrd hcr hC' hl) dX1_read_24
      · have kc2 := kcr.weaken (Q' := fun z h' => ∃ M g' fs N', z = .inr M ∧ h' = sH b u g' ∧ g' M = some (.inr (17, fs)) ∧ (∀ c : Nat → Int, c 0 = 3 → c 1 = 100 + y.1 → c 2 = y.2.1 → (y.2.1 = 3 → c 3 = 100 + y.2.2) → fC b g' c (if y.2.1 = 3 then 3 else 2) 0 M) ∧ zExt (N + 4) g2 g' ∧ zTop g' N' ∧ N + 4 ≤ N') (fun z h' hq => by
          unfold crQ at hq
          rw [hrd] at hq
          dsimp only at hq
          rw [er, hcr] at hq
          exact hq)
        refine z_aload_n K dX1_read_19 rfl rfl rfl ?_
        refine z_aload_n K dX1_read_20 rfl rfl rfl ?_
        refine z_callV K kc2 cV_X1_324_X1 lk2 rfl rfl rfl (by omega) (by omega) (by omega) (Nat.le_of_ble_eq_true rfl) dX1_read_21 (fun q h1 hq => ?_) (fun v h1 hq => ?_)
        · obtain ⟨M1, g3, fs, N', z, rfl, f1, f2, f3, f4, f5⟩ := hq
          cases z
          have aM : q < b ∨ b + 72 ≤ q := by
            have fq := f2 (fun i => if i = 0 then 3 else if i = 1 then 100 + y.1 else if i = 2 then y.2.1 else 100 + y.2.2) rfl rfl rfl (fun _ => rfl)
            by_cases z : y.2.1 = 3
            · rw [if_pos z] at fq; exact fq.choose_spec.2.1.1.2
            · rw [if_neg z] at fq; exact fq.choose_spec.2.1.1.2
          refine z_catch2 K ((sH_out aM).trans f1) rfl (by decide) q1436 nc_RT (by omega) (by decide) q1437 q1733 ?_
          exact zW.widen (by omega) (by omega) (rf x y q g3 N' hrd hcr f2 f3 f4 f5 _ ⟨rfl, trivial⟩)
        obtain ⟨M1, g3, fs, N', z, -⟩ := hq
        cases z
    · have kc2 := kcr.weaken (Q' := fun z h' => ∃ M g' fs N', z = .inr M ∧ h' = sH b u g' ∧ g' M = some (.inr (14, fs)) ∧ (∀ c : Nat → Int, c 0 = 2 → c 1 = 100 + e → fC b g' c 1 0 M) ∧ zExt (N + 4) g2 g' ∧ zTop g' N' ∧ N + 4 ≤ N') (fun z h' hq => by
        unfold crQ at hq
        rw [hrd] at hq
        exact hq)
      refine z_aload_n K dX1_read_19 rfl rfl rfl ?_
      refine z_aload_n K dX1_read_20 rfl rfl rfl ?_
      refine z_callV K kc2 cV_X1_324_X1 lk2 rfl rfl rfl (by omega) (by omega) (by omega) (Nat.le_of_ble_eq_true rfl) dX1_read_21 (fun q h1 hq => ?_) (fun v h1 hq => ?_)
      · obtain ⟨M1, g3, fs, N', z, rfl, f1, f2, f3, f4, f5⟩ := hq
        cases z
        have aM : q < b ∨ b + 72 ≤ q := by
          have fq := f2 (fun i => if i = 0 then 2 else 100 + e) rfl rfl
          exact fq.choose_spec.2.1.1.2
        refine z_catch1 K ((sH_out aM).trans f1) rfl (by omega) (by decide) q1436 q1643 ?_
        exact zW.widen (by omega) (by omega) (tf e q g3 N' hrd f2 f3 f4 f5 _ ⟨rfl, trivial⟩)
      obtain ⟨M1, g3, fs, N', z, -⟩ := hq
      cases z
  have kin' := kin
  refine z_aload_n K dX1_read_0 rfl rfl rfl ?_
  refine z_get K fd_X1_23_1 (hx) rfl dX1_read_1 ?_
  refine z_callV K (kts) cV_X1_320_J7 (hT) rfl rfl rfl (by omega) (by omega) (by omega) (Nat.le_of_ble_eq_true rfl) dX1_read_4 zrX (zrK ?_)
  refine z_astore_n K dX1_read_7 rfl rfl (by decide) rfl ?_
  refine z_aload_n K dX1_read_8 rfl rfl rfl ?_
  refine z_new K (N + 2) nw_X1_20 fr2 (by omega) (by omega) (by omega) dX1_read_9 ?_
  refine z_dup K dX1_read_12 rfl ?_
  refine z_cI (fs := []) K (kin) cI_X1_22 rfl rfl (by omega) (by omega) (by omega) (Nat.le_of_ble_eq_true rfl) dX1_read_13 zvX (zvK ?_)
  refine z_putE K fd_X1_23_1 ⟨_, rfl, Or.inl rfl⟩ (lkB) (by omega) (Nat.le_of_ble_eq_true rfl) (zf_r) dX1_read_16 (hset) ?_
  exact zW.widen (by omega) (by omega) (seg _ ⟨rfl, rfl, trivial⟩)
end XP9

