/-! ===== the component: the search runs ===== -/
theorem sAl_eq {s bs : Nat → Int} (h : ∀ i, i < 183 ∨ 203 ≤ i → bs i = s i) : sAl s (fun m q => bs (183 + 5 * m + q)) 4 = bs := by
  funext i
  unfold sAl
  by_cases e : 183 ≤ i ∧ i < 183 + 5 * 4
  · rw [if_pos e]
    exact congrArg bs (by omega)
  · rw [if_neg e]
    exact (h i (by omega)).symm
theorem sXc_out {s : Nat → Int} {m p : Int} (hm : 0 ≤ m ∧ m ≤ 3) (hp : 0 ≤ p ∧ p + 1 < 5) {i : Nat} (h : i < 183 ∨ 203 ≤ i) : sXc s m p i = s i := by unfold sXc; rw [sup_n (by omega), sup_n (by omega)]
section XSr
variable {S b B N : Nat} {u : tW} {g : zH} {x rd st : Nat → Int} {M : Nat → Nat} {F G : Nat → Int} {most : Int}
/-- what a row of the search is -/
def okR (s0 s : Nat → Int) : Prop := WfA s ∧ WfO s ∧ ACy s (oB 0) ∧ ∀ i, i < 183 ∨ 203 ≤ i → s i = s0 i
theorem okR.sx {s0 s : Nat → Int} (h : okR s0 s) {m p : Nat} {v : Int} (hm : m ≤ 3) (hp : p + 1 < 5 ∧ (p : Int) + 1 < sOn s m) (hk : MkR (sXc s m p) (oB 0) v) (hv : 0 ≤ v) : okR s0 (sXc s m p) := by
  obtain ⟨h1, h2, h3, h4⟩ := h
  have a := sXc_A (m := m) (p := p) (by omega) (by omega) h1
  have o := sXc_O (m := m) (p := p) h1 h2 (by omega) (by omega)
  exact ⟨a, o, hk.ac a o hv, fun i hi => (sXc_out (by omega) (by omega) hi).trans (h4 i hi)⟩
theorem x11_run (hb : 1000 ≤ b) (hSb : b + 72 ≤ S) (hAm : Am g) (hA : WfA (u 0)) (hO : WfO (u 0)) (hac : ACy (u 0) (oB 0)) (hB : BkOk b u g) (h52 : u 5 2 = -1) (h53 : 0 ≤ u 5 3 ∧ u 5 3 ≤ 3000) (hSF : SF u (oB 0) rd st) (hT : Tp (u 0) (oB 0) (-1) 0 rd st) (hTq : Tq (u 0) (oB 0) st) (hse : seH b S B N g (u 0) (u 0) x 0 M F G) (hx2 : x 2 = 0) (hten : 0 ≤ x 0 ∧ x 0 ≤ 9) (hx1 : 0 ≤ x 1 ∧ x 1 ≤ 100000) (hxr : rX x) (hmo : 0 ≤ most ∧ most ≤ 20) :
    zMet yX11_run (ws_ yX11_run cX11_run 3 none) 11 [.ref S, .int (iI most)] (sH b u g) (fun z h' => ∃ (u' : tW) (g' : zH) (x' : Nat → Int) (B' N' n : Nat), z = .inl none ∧ h' = sH b u' g' ∧ SO u u' ∧ (∀ m, m < S → g' m = g m) ∧ (∃ fuel, tbR (x 0) most fuel (u 0) (laN F G 0) (x 1) (u 0) 0 (u' 0) (x' 2)) ∧ okR (u 0) (u' 0) ∧ g' S = some (.inr (10, seF b (S + 1) B' x')) ∧ rX x' ∧ S < N' ∧ zTop g' N') 1520 28000 := by
  refine zMet.of (by decide) (Nat.le_of_ble_eq_true rfl) fun X K => ?_
  have hq : ∀ (u' : tW) (g' : zH) (x' : Nat → Int) (B' N' : Nat), SO u u' → (∀ m, m < S → g' m = g m) → (∃ fuel, tbR (x 0) most fuel (u 0) (laN F G 0) (x 1) (u 0) 0 (u' 0) (x' 2)) → okR (u 0) (u' 0) → g' S = some (.inr (10, seF b (S + 1) B' x')) → rX x' → S < N' → zTop g' N' → (fun (z : zO) (h' : zH) => ∃ (u' : tW) (g' : zH) (x' : Nat → Int) (B' N' n : Nat), z = .inl none ∧ h' = sH b u' g' ∧ SO u u' ∧ (∀ m, m < S → g' m = g m) ∧ (∃ fuel, tbR (x 0) most fuel (u 0) (laN F G 0) (x 1) (u 0) 0 (u' 0) (x' 2)) ∧ okR (u 0) (u' 0) ∧ g' S = some (.inr (10, seF b (S + 1) B' x')) ∧ rX x' ∧ S < N' ∧ zTop g' N') (.inl none) (sH b u' g') := fun u' g' x' B' N' a1 a2 a3 a4 a5 a6 a7 a8 => ⟨u', g', x', B', N', 0, rfl, rfl, a1, a2, a3, a4, a5, a6, a7, a8⟩
  generalize (fun (z : zO) (h' : zH) => ∃ (u' : tW) (g' : zH) (x' : Nat → Int) (B' N' n : Nat), z = .inl none ∧ h' = sH b u' g' ∧ SO u u' ∧ (∀ m, m < S → g' m = g m) ∧ (∃ fuel, tbR (x 0) most fuel (u 0) (laN F G 0) (x 1) (u 0) 0 (u' 0) (x' 2)) ∧ okR (u 0) (u' 0) ∧ g' S = some (.inr (10, seF b (S + 1) B' x')) ∧ rX x' ∧ S < N' ∧ zTop g' N') = Q at *
  have c22 : ∀ (n : Nat) (u1 : tW) (g1 : zH) (x1 bs1 : Nat → Int) (B1 N1 : Nat) (M1 : Nat → Nat) (F1 G1 : Nat → Int), n ≤ 20 → SO u u1 → (∀ m, m < S → g1 m = g m) → okR (u 0) (u1 0) → okR (u 0) bs1 → seH b S B1 N1 g1 (u1 0) bs1 x1 n M1 F1 G1 → rX x1 → (∃ fuel, tbR (x 0) most fuel (u 0) (laN F G 0) (x 1) (u 0) 0 bs1 (x1 2)) → ∀ env, zsub env [(0, .ref S)] → zW X Q (sH b u1 g1) 1520 28000 22 env [] := by
    intro n u1 g1 x1 bs1 B1 N1 M1 F1 G1 hn so gb ok ob se xr ft env he
    refine zW.cut he ?_
    obtain ⟨se1, se2, se3, se4, se5, se6, se7, se8⟩ := id se
    have hl : lH B1 4 4 (fun i => B1 + 4 + 2 * i) g1 = g1 := lH_self se7
    have htk := x2_takeOrders (b := b) (u := u1) (g := g1) (L := B1) (c := 4) (f := fun i => B1 + 4 + 2 * i) (r := fun i => B1 + 5 + 2 * i) (F := fun m q => bs1 (183 + 5 * m + q)) hb (by omega) ok.1.1 (by
      rw [hl]
      intro m hm
      have := se8 m hm
      dsimp only at this ⊢
      exact ⟨(sH_out (by omega)).trans this.1, (sH_out (by omega)).trans this.2⟩) (fun m hm => by omega)
    rw [hl, sAl_eq (fun i hi => (ob.2.2.2 i hi).trans (ok.2.2.2 i hi).symm)] at htk
    have w0 : wRow u1 bs1 0 = bs1 := wRow_0
    have fin := hq (wRow u1 bs1) g1 x1 B1 N1 (so.tr SO.row) gb (by rw [w0]; exact ft) (by rw [w0]; exact ob) se4 xr (by omega) se3
    refine z_aload_n K dX11_run_22 rfl rfl rfl ?_
    refine z_get K fd_X11_18_10 ((sH_out (by omega)).trans se4) rfl dX11_run_23 ?_
    refine z_aload_n K dX11_run_26 rfl rfl rfl ?_
    refine z_get K fd_X11_41_10 ((sH_out (by omega)).trans se4) rfl dX11_run_27 ?_
    refine z_callV K (htk) cV_X11_129_X2 (sH_shop) rfl rfl rfl (by omega) (by omega) (by omega) (Nat.le_of_ble_eq_true rfl) dX11_run_30 zvX (zvK ?_)
    exact z_vret K (by omega) (by omega) (fin) dX11_run_33
  have loop : ∀ (r n : Nat), n + r = most.toNat → ∀ (u1 : tW) (g1 : zH) (x1 bs1 rd1 st1 : Nat → Int) (B1 N1 : Nat) (M1 : Nat → Nat) (F1 G1 : Nat → Int), SO u u1 → (∀ m, m < S → g1 m = g m) → okR (u 0) (u1 0) → okR (u 0) bs1 → BkOk b u1 g1 → SF u1 (oB 0) rd1 st1 → Tp (u1 0) (oB 0) (-1) 0 rd1 st1 → Tq (u1 0) (oB 0) st1 → seH b S B1 N1 g1 (u1 0) bs1 x1 n M1 F1 G1 → (x1 0 = x 0 ∧ x1 2 = n) → (0 ≤ x1 1 ∧ x1 1 ≤ 100000) → rX x1 → (∀ i, i < n → (0 ≤ F1 i ∧ F1 i < 20) ∧ 0 ≤ G1 i ∧ G1 i < 20) → (∀ fuel bs' k', tbR (x 0) most fuel (u1 0) (laN F1 G1 n) (x1 1) bs1 n bs' k' → ∃ fuel, tbR (x 0) most fuel (u 0) (laN F G 0) (x 1) (u 0) 0 bs' k') → ∀ env, zsub env [(0, .ref S), (1, .int (iI most)), (2, .int (iI 1))] → zW X Q (sH b u1 g1) (76 * n) (1400 * n) 2 env [] := by
    intro r
    induction r with
    | zero =>
      intro n hn u1 g1 x1 bs1 rd1 st1 B1 N1 M1 F1 G1 so gb ok ob hB1 hS1 hT1 hQ1 se xe xl xr fr kn env he
      refine zW.cut he ?_
      have nx := c22 n u1 g1 x1 bs1 B1 N1 M1 F1 G1 (by omega) so gb ok ob se xr (kn 1 bs1 (x1 2) (Or.inl ⟨by omega, rfl, xe.2⟩))
      refine zW.widen (k' := 1520) (n' := 28000) (by omega) (by omega) ?_
      clear kn
      refine z_iload_n K dX11_run_2 rfl rfl ?_
      refine j_if_eq (tgt := 22) K dX11_run_3 rfl (by decide) (fun c_3 => ?_) (fun c_3 => ?_)
      · exact absurd c_3 (by decide)
      · refine z_aload_n K dX11_run_6 rfl rfl rfl ?_
        refine z_get K fd_X11_63_10 ((sH_out (by omega)).trans se.2.2.2.1) rfl dX11_run_7 ?_
        rw [xe.2]
        refine z_iload_n K dX11_run_10 rfl rfl ?_
        refine j_icmp_ge (tgt := 22) K dX11_run_11 rfl (by omega) (by omega) (fun c_11 => ?_) (fun c_11 => ?_)
        · exact nx _ ⟨rfl, trivial⟩
        · exact absurd c_11 (by omega)
    | succ r ih =>
      intro n hn u1 g1 x1 bs1 rd1 st1 B1 N1 M1 F1 G1 so gb ok ob hB1 hS1 hT1 hQ1 se xe xl xr fr kn env he
      refine zW.cut he ?_
      have hAm1 : Am g1 := hAm.ext (N := S) gb (by omega)
      have hst := x11_step (b := b) (S := S) (B := B1) (N := N1) (u := u1) (g := g1) (x := x1) (bs := bs1) (n := n) (M := M1) (F := F1) (G := G1) (rd := rd1) (st := st1) hb hSb hAm1 ok.1 ok.2.1 hB1 (by rw [so.2.1]; exact h52) (by rw [so.2.2.1]; exact h53) hS1 hT1 se xe.2 (by omega) (by omega) xl xr fr
      have hno : ∀ h', stpN b S B1 n u1 g1 x1 bs1 rd1 st1 M1 F1 G1 h' → ∀ env, zsub env [(0, .ref S)] → zW X Q h' 1520 28000 22 env [] := by
        rintro h' ⟨u', g', x', N', rfl, e1, e2, e3, e4, e5, ⟨e6, e7, e8⟩, e9⟩
        refine c22 n u' g' x' bs1 B1 N' M1 F1 G1 (by omega) (so.tr e2) (fun m hm => (e3 m hm).trans (gb m hm)) (by rw [e1]; exact ok) ob (by rw [e1]; exact e5) e9 (kn 1 bs1 (x' 2) (Or.inr ⟨by omega, rd1, st1, hT1, hQ1, Or.inl ⟨by rw [← xe.1]; exact e4, rfl, by rw [e8, xe.2]⟩⟩))
      have hyes : ∀ h', stpY b S n u1 g1 x1 bs1 rd1 st1 F1 G1 h' → ∀ env, zsub env [(0, .ref S), (1, .int (iI most)), (2, .int (iI 1))] → zW X Q h' (76 * (n + 1 : Nat)) (1400 * (n + 1 : Nat)) 2 env [] := by
        rintro h' ⟨u', g', x', N', B', M', m, p, v, rd', st', rfl, y1, y2, y3, y4, y5, y6, y7, y8, y9, y10, y11, y12, y13, yB, y14⟩
        have hmk : MkR (sXc (u1 0) m p) (oB 0) v := by obtain ⟨⟨i, _, _, _, _, q, _⟩, _⟩ := y1; exact q
        have ok2 : okR (u 0) (u' 0) := by rw [y3]; exact ok.sx y2.1 y2.2 hmk y12.1
        have h20 := ok.1.2.1.1
        have oo := (ok.2.1 m (by omega) (by omega)).2.1
        have o1 := oo p (by omega) (by omega)
        have o2 := oo (p + 1) (by omega) (by omega)
        refine ih (n + 1) (by omega) u' g' x' (if v < x1 1 then sXc (u1 0) m p else bs1) rd' st' B' N' M' _ _ (so.tr y4) (fun q hq => (y5 q hq).trans (gb q hq)) ok2 (by split; rw [← y3]; exact ok2; exact ob) yB y6 y7 y8 y14 ⟨y9.trans xe.1, by rw [y11, xe.2]; rfl⟩ (by rw [y10]; split <;> omega) y13 ?_ ?_
        · intro i hi
          by_cases e : i = n
          · subst e; rw [sup_s, sup_s]; omega
          · rw [sup_n e, sup_n e]; exact fr i (by omega)
        · intro fuel bs' k' ht
          refine kn (fuel + 1) bs' k' (Or.inr ⟨by omega, rd1, st1, hT1, hQ1, Or.inr ⟨m, p, v, by rw [← xe.1]; exact y1, ?_⟩⟩)
          have el : laU (laN F1 G1 n) (sOr (u1 0) m (p + 1)) (sOr (u1 0) m p) (n + 1) = laN (sup F1 n (sOr (u1 0) m (p + 1))) (sup G1 n (sOr (u1 0) m p)) (n + 1) := by
            show _ = laU (laN _ _ n) (sup F1 n (sOr (u1 0) m (p + 1)) n) (sup G1 n (sOr (u1 0) m p) n) (n + 1)
            rw [sup_s, sup_s, laN_congr (F' := F1) (G' := G1) n (fun i hi => ⟨sup_n (by omega), sup_n (by omega)⟩)]
          rw [el, ← y10]
          rw [y3] at ht
          exact ht
      clear ih kn
      refine z_iload_n K dX11_run_2 rfl rfl ?_
      refine j_if_eq (tgt := 22) K dX11_run_3 rfl (by decide) (fun c_3 => ?_) (fun c_3 => ?_)
      · exact absurd c_3 (by decide)
      · refine z_aload_n K dX11_run_6 rfl rfl rfl ?_
        refine z_get K fd_X11_63_10 ((sH_out (by omega)).trans se.2.2.2.1) rfl dX11_run_7 ?_
        rw [xe.2]
        refine z_iload_n K dX11_run_10 rfl rfl ?_
        refine j_icmp_ge (tgt := 22) K dX11_run_11 rfl (by omega) (by omega) (fun c_11 => ?_) (fun c_11 => ?_)
        · exact absurd c_11 (by omega)
        · refine z_aload_n K dX11_run_14 rfl rfl rfl ?_
          refine z_callV K (hst) cV_X11_126_X11 ((sH_out (by omega)).trans se.2.2.2.1) rfl rfl rfl (by omega) (by omega) (by omega) (Nat.le_of_ble_eq_true rfl) dX11_run_15 (fun _ _ e => e.elim (fun e => nomatch e.1) (fun e => nomatch e.1)) ?_
          rintro _ h' (⟨ez, hN⟩ | ⟨ez, hY⟩) <;> cases ez
          · have nx := hno h' hN
            refine z_istore_n K dX11_run_18 rfl (by decide) rfl ?_
            refine z_goto (tgt := 2) K dX11_run_19 rfl ?_
            refine z_iload_n K dX11_run_2 rfl rfl ?_
            refine j_if_eq (tgt := 22) K dX11_run_3 rfl (by decide) (fun _ => ?_) (fun q => absurd rfl q)
            exact zW.widen (by omega) (by omega) (nx _ ⟨rfl, trivial⟩)
          · have nx := hyes h' hY
            refine z_istore_n K dX11_run_18 rfl (by decide) rfl ?_
            refine z_goto (tgt := 2) K dX11_run_19 rfl ?_
            exact zW.widen (by omega) (by omega) (nx _ ⟨rfl, rfl, rfl, trivial⟩)
  have go := loop most.toNat 0 (by omega) u g x (u 0) rd st B N M F G SO.rf (fun _ _ => rfl) ⟨hA, hO, hac, fun _ _ => rfl⟩ ⟨hA, hO, hac, fun _ _ => rfl⟩ hB hSF hT hTq hse ⟨rfl, hx2⟩ hx1 hxr (fun i hi => by omega) (fun fuel bs' k' h => ⟨fuel, h⟩)
  clear loop c22
  refine j_iconst K dX11_run_0 ?_
  refine z_istore_n K dX11_run_1 rfl (by decide) rfl ?_
  exact go _ ⟨rfl, rfl, rfl, trivial⟩
/-- the search is made -/
theorem x11_init {ten : Int} (hb : 1000 ≤ b) (hSb : b + 72 ≤ S) (hAm : Am g) (hTp : zTop g S) (hJ : 0 ≤ ten ∧ ten ≤ 9) (h50 : 0 ≤ u 5 0 ∧ u 5 0 ≤ 100000) :
    zMet yX11_init (ws_ yX11_init cX11_init 3 none) 10 [.ref S, .ref b, .int (iI ten)] (zup (sH b u g) S (.inr (10, [.null, .int 0, .null, .null, .int 0, .int 0, .int 0, .int 0, .int 0]))) (fun z h' => ∃ (g' : zH) (x : Nat → Int), z = .inl none ∧ h' = sH b u g' ∧ (∀ m, m < S → g' m = g m) ∧ x 0 = ten ∧ x 1 = u 5 0 ∧ x 2 = 0 ∧ rX x ∧ seH b S (S + 5) (S + 17) g' (u 0) (u 0) x 0 (fun _ => 0) (fun _ => 0) (fun _ => 0)) 14 123 := by
  refine zMet.of (by decide) (Nat.le_of_ble_eq_true rfl) fun X K => ?_
  obtain ⟨⟨fE, hE⟩, -⟩ := id hAm
  rw [sH_upo (by omega)]
  have hq : ∀ (g' : zH) (x : Nat → Int), (∀ m, m < S → g' m = g m) → x 0 = ten → x 1 = u 5 0 → x 2 = 0 → rX x → seH b S (S + 5) (S + 17) g' (u 0) (u 0) x 0 (fun _ => 0) (fun _ => 0) (fun _ => 0) → (fun (z : zO) (h' : zH) => ∃ (g' : zH) (x : Nat → Int), z = .inl none ∧ h' = sH b u g' ∧ (∀ m, m < S → g' m = g m) ∧ x 0 = ten ∧ x 1 = u 5 0 ∧ x 2 = 0 ∧ rX x ∧ seH b S (S + 5) (S + 17) g' (u 0) (u 0) x 0 (fun _ => 0) (fun _ => 0) (fun _ => 0)) (.inl none) (sH b u g') := fun g' x a1 a2 a3 a4 a5 a6 => ⟨g', x, rfl, rfl, a1, a2, a3, a4, a5, a6⟩
  generalize (fun (z : zO) (h' : zH) => ∃ (g' : zH) (x : Nat → Int), z = .inl none ∧ h' = sH b u g' ∧ (∀ m, m < S → g' m = g m) ∧ x 0 = ten ∧ x 1 = u 5 0 ∧ x 2 = 0 ∧ rX x ∧ seH b S (S + 5) (S + 17) g' (u 0) (u 0) x 0 (fun _ => 0) (fun _ => 0) (fun _ => 0)) = Q at *
  have h1 : sH b u (zup g S (.inr (10, [.null, .int 0, .null, .null, .int 0, .int 0, .int 0, .int 0, .int 0]))) 1 = some (aR 0 0 fE) := (sH_out (by omega)).trans ((zup_ne (by omega)).trans hE)
  have hli := jl_init (h := zup (sH b u (zup g S (.inr (10, [.null, .int 0, .null, .null, .int 0, .int 0, .int 0, .int 0, .int 0])))) (S + 1) (.inr (18, [.int 0, .null, .int 0]))) (L := S + 1) (zup_at _ _ _) ((zup_ne (by omega)).trans h1) (by omega)
  rw [zup_zup] at hli
  have eg : ∀ l : List Value, zup (zup (sH b u (zup g S (.inr (10, [.null, .int 0, .null, .null, .int 0, .int 0, .int 0, .int 0, .int 0])))) (S + 1) (oL 0 1 0)) S (.inr (10, l)) = sH b u (zup (zup g (S + 1) (oL 0 1 0)) S (.inr (10, l))) := fun l => by
    rw [sH_upo (by omega), sH_upo (by omega)]
    congr 1
    funext m
    by_cases e : m = S
    · subst e; rw [zup_at, zup_at]
    · rw [zup_ne e, zup_ne e]
      by_cases e2 : m = S + 1
      · subst e2; rw [zup_at, zup_at]
      · rw [zup_ne e2, zup_ne e2, zup_ne e]
  have eh : ∀ l l' : List Value, zup (sH b u (zup (zup g (S + 1) (oL 0 1 0)) S (.inr (10, l)))) S (.inr (10, l')) = sH b u (zup (zup g (S + 1) (oL 0 1 0)) S (.inr (10, l'))) := fun l l' => by rw [sH_upo (by omega), zup_zup]
  generalize hx0 : (fun i => if i = 0 then ten else 0 : Nat → Int) = x0
  have hG : zup (zup g (S + 1) (oL 0 1 0)) S (.inr (10, [.ref b, .int (iI ten), .ref (S + 1), .null, .int 0, .int 0, .int 0, .int 0, .int 0])) = zup (zup g (S + 1) (oL 0 1 0)) S (.inr (10, seG b (S + 1) .null x0)) := by rw [← hx0]; rfl
  have hg1o : ∀ m, m < S → zup (zup g (S + 1) (oL 0 1 0)) S (.inr (10, seG b (S + 1) .null x0)) m = g m := fun m hm => by rw [zup_ne (by omega), zup_ne (by omega)]
  have hg1S : zup (zup g (S + 1) (oL 0 1 0)) S (.inr (10, seG b (S + 1) .null x0)) S = some (.inr (10, seG b (S + 1) .null x0)) := zup_at _ _ _
  have hg1L : ∀ m, S + 1 ≤ m → m < S + 5 → zup (zup g (S + 1) (oL 0 1 0)) S (.inr (10, seG b (S + 1) .null x0)) m = lH (S + 1) (0 : Nat) 0 (fun _ => 0) g m := fun m m1 m2 => by
    rw [zup_ne (by omega)]
    by_cases e : m = S + 1
    · subst e; rw [zup_at, lH_0]; rfl
    · rw [zup_ne e, hTp m (by omega)]
      rcases (by omega : m = S + 1 + 1 ∨ m = S + 1 + 2 ∨ m = S + 1 + 3) with rfl | rfl | rfl
      · rw [lH_1, if_pos rfl]
      · rw [lH_2, if_pos (by omega)]
      · rw [lH_3, if_pos (by omega)]
  have hg1t : zTop (zup (zup g (S + 1) (oL 0 1 0)) S (.inr (10, seG b (S + 1) .null x0))) (S + 5) := fun m hm => by rw [zup_ne (by omega), zup_ne (by omega)]; exact hTp m (by omega)
  have eh3 : ∀ l : List Value, zup (sH b u (zup (zup g (S + 1) (oL 0 1 0)) S (.inr (10, l)))) S (.inr (10, [.ref b, .int (iI ten), .ref (S + 1), .null, .int 0, .int 0, .int 0, .int 0, .int 0])) = sH b u (zup (zup g (S + 1) (oL 0 1 0)) S (.inr (10, seG b (S + 1) .null x0))) := fun l => by rw [eh, hG]
  have hAm1 : Am (zup (zup g (S + 1) (oL 0 1 0)) S (.inr (10, seG b (S + 1) .null x0))) := hAm.ext (N := S) hg1o (by omega)
  have hrx : rX x0 := fun i hi => by rw [← hx0]; dsimp only; split <;> omega
  have x00 : x0 0 = ten := by rw [← hx0]; rfl
  have x02 : x0 2 = 0 := by rw [← hx0]; rfl
  generalize zup (zup g (S + 1) (oL 0 1 0)) S (.inr (10, seG b (S + 1) .null x0)) = g1 at *
  have hkp := x11_keep (S := S) (b := b) (L := S + 1) (N := S + 5) (u := u) (g := g1) (x := x0) hb hSb (by omega) hAm1 hg1t hg1S
  have fin : ∀ g' : zH, fourO g' (fun i => S + 5 + 4 + 2 * i) (fun i => S + 5 + 5 + 2 * i) (u 0) (fun m q => u 0 (183 + 5 * m + q)) → (∀ m, m < S + 5 → m ≠ S → g' m = g1 m) → zTop g' (S + 5 + 12) → Q (.inl none) (sH b u (zup (lH (S + 5) 4 4 (fun i => S + 5 + 4 + 2 * i) g') S (.inr (10, seF b (S + 1) (S + 5) (sup x0 1 (u 5 0)))))) := fun g' f4 o4 t4 => by
    refine hq _ _ (fun m hm => (zup_ne (by omega)).trans ((lH_o (by omega)).trans ((o4 m (by omega) (by omega)).trans (hg1o m hm)))) ((sup_n (by decide)).trans x00) sup_s ((sup_n (by decide)).trans x02) (hrx.sup (by omega)) ⟨by omega, by omega, fun m hm => (zup_ne (by omega)).trans ((lH_o (by omega)).trans (t4 m (by omega))), zup_at _ _ _, fun m m1 m2 => ?_, fun i hi => by omega, fun m m1 m2 => ?_, fun m hm => ?_⟩
    · rw [zup_ne (by omega), lH_o (by omega), o4 m (by omega) (by omega), hg1L m m1 m2]
      exact lH_in m1 (by omega)
    · rw [zup_ne (by omega)]
      exact lH_in m1 m2
    · have := f4 m hm
      dsimp only at this ⊢
      exact ⟨(zup_ne (by omega)).trans ((lH_o (by omega)).trans this.1), (zup_ne (by omega)).trans ((lH_o (by omega)).trans this.2)⟩
  refine z_aload_n K dX11_init_0 rfl rfl rfl ?_
  refine z_objInit K q1237 (by omega) (Nat.le_of_ble_eq_true rfl) dX11_init_1 ?_
  refine z_aload_n K dX11_init_4 rfl rfl rfl ?_
  refine z_new K (S + 1) nw_X11_9 ((sH_out (by omega)).trans ((zup_ne (by omega)).trans (hTp _ (by omega)))) (by omega) (by omega) (by omega) dX11_init_5 ?_
  refine z_dup K dX11_init_8 rfl ?_
  refine z_cI (fs := []) K (hli) cI_X11_11 rfl rfl (by omega) (by omega) (by omega) (Nat.le_of_ble_eq_true rfl) dX11_init_9 zvX (zvK ?_)
  refine z_putE K fd_X11_12_10 (by first | exact ⟨_, rfl, Or.inl rfl⟩ | exact ⟨_, rfl, Or.inr ⟨rfl, rfl, rfl⟩⟩) ((zup_ne (by omega)).trans ((sH_out (by omega)).trans (zup_at _ _ _))) (by omega) (Nat.le_of_ble_eq_true rfl) (zf_r) dX11_init_12 (eg _) ?_
  refine z_aload_n K dX11_init_15 rfl rfl rfl ?_
  refine z_aload_n K dX11_init_16 rfl rfl rfl ?_
  refine z_putE K fd_X11_18_10 (by first | exact ⟨_, rfl, Or.inl rfl⟩ | exact ⟨_, rfl, Or.inr ⟨rfl, rfl, rfl⟩⟩) ((sH_out (by omega)).trans (zup_at _ _ _)) (by omega) (Nat.le_of_ble_eq_true rfl) (zf_r) dX11_init_17 (eh _ _) ?_
  refine z_aload_n K dX11_init_20 rfl rfl rfl ?_
  refine z_iload_n K dX11_init_21 rfl rfl ?_
  refine z_putE K fd_X11_22_10 (by first | exact ⟨_, rfl, Or.inl rfl⟩ | exact ⟨_, rfl, Or.inr ⟨rfl, rfl, rfl⟩⟩) ((sH_out (by omega)).trans (zup_at _ _ _)) (by omega) (Nat.le_of_ble_eq_true rfl) (zf_i) dX11_init_22 (eh3 _) ?_
  refine z_aload_n K dX11_init_25 rfl rfl rfl ?_
  refine z_callV K (hkp) cV_X11_26_X11 ((sH_out (by omega)).trans hg1S) rfl rfl rfl (by omega) (by omega) (by omega) (Nat.le_of_ble_eq_true rfl) dX11_init_26 (fun _ _ ⟨_, e, _⟩ => nomatch e) ?_
  rintro _ _ ⟨g', ez, rfl, f4, o4, t4⟩
  cases ez
  exact z_vret K (by omega) (by omega) (fin g' f4 o4 t4) dX11_init_29
end XSr

