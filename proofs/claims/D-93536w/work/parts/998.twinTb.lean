/-! ===== the reference: tabu ===== -/
theorem dv5 : ∀ n, n < 20 → iI ((n : Nat) : Int) / iI 5 = iI ((n / 5 : Nat) : Int) := by decide +kernel
theorem md5 : ∀ n, n < 20 → iI ((n : Nat) : Int) - iI ((n : Nat) : Int) / iI 5 * iI 5 = iI ((n % 5 : Nat) : Int) := by decide +kernel
noncomputable def tcTabu (a t : Int) : Int := if (0 ≤ a ∧ a ≤ 20) ∧ 0 ≤ t ∧ t ≤ 9 then 0 else 1
abbrev tbF : List Nat := [0, 3, 10, 11, 12, 16, 17, 24, 25, 26]
def tabQ (w : tW) (a t : Int) (v : Int) (w' : tW) : Prop := ∃ (fuel : Nat) (bs : Nat → Int) (k le0 : Int), MkR (w 0) (oB 0) le0 ∧ tbR t a fuel (w 0) (fun _ _ => 0) le0 (w 0) 0 bs k ∧ okR (w 0) bs ∧ w' 0 = bs ∧ w' 10 0 = k ∧ (0 ≤ k ∧ k ≤ 20) ∧ w' 3 0 = 0 ∧ Fr tbF w w' ∧ MkR bs (oB 0) v
/-- the state of the search -/
def tbI (w W : tW) (s : Nat → Int) (la : Int → Int → Int) (bs : Nat → Int) (k : Int) : Prop := W 0 = s ∧ Fr tbF w W ∧ W 3 0 = 0 ∧ W 10 0 = k ∧ (∀ a c : Int, 0 ≤ a → a < 20 → 0 ≤ c → c < 20 → W 24 (20 * a + c).toNat = la a c ∧ 0 ≤ la a c ∧ la a c ≤ 20) ∧ (∀ i : Nat, i < 20 → W 25 i = bs (183 + i)) ∧ okR (w 0) s ∧ okR (w 0) bs
section TbW
variable {X : zX} {Q : zO → zH → Prop} {w : tW} {sa te : Int}
/-- what a world of the search has of the schedule -/
theorem tbI.pre {W : tW} {s bs : Nat → Int} {la : Int → Int → Int} {k : Int} (hI : TI w) (h : tbI w W s la bs k) : W 13 = w 13 ∧ (∀ m : Nat, m < 4 → 0 ≤ W 13 m ∧ W 13 m ≤ 1) ∧ W 14 0 = -1 ∧ (0 ≤ W 15 0 ∧ W 15 0 ≤ 3000) := by
  have h13 : W 13 = w 13 := h.2.1 13 (by decide)
  rw [h13, h.2.1 14 (by decide), h.2.1 15 (by decide)]
  exact ⟨rfl, fun m hm => by rw [hI.2.2.1 m hm]; omega, hI.2.2.2.1, hI.2.2.2.2.1⟩
theorem TI.o4 (hI : TI w) : ∀ m : Nat, m < 4 → w 13 m = oB 0 m := fun m hm => by rw [hI.2.2.1 m hm]; rcases oB_r 0 m with h | h; exact h.symm; unfold oB at h ⊢; simp at h
theorem tw_tbEnd (K : zK yX4_tabu cX4_tabu 14 (some .int) [] 8 0 0 X) (hI : TI w) (hq : ∀ v W, tabQ w sa te v W → Q (.inl (some (.int (iI v)))) (tH W)) {W : tW} {s bs : Nat → Int} {la : Int → Int → Int} {k le0 : Int} {fuel : Nat} (hle : MkR (w 0) (oB 0) le0) (h : tbI w W s la bs k) (hk : 0 ≤ k ∧ k ≤ 20) (ht : tbR te sa fuel (w 0) (fun _ _ => 0) le0 (w 0) 0 bs k) : ∀ env, zsub env [(0, .ref 1000)] → zW X Q (tH W) 0 0 374 env [] := by
  intro env he
  refine zW.cut he ?_
  obtain ⟨h13, ho, h14, h15⟩ := h.pre hI
  obtain ⟨h0, hF, h3, h10, h24, h25, hs, hb⟩ := h
  have e0 : va_cpy (W 25) (W 0) 0 183 20 = bs := by
    funext i
    unfold va_cpy
    split
    · next q => rw [h25 _ (by omega)]; exact congrArg bs (by omega)
    · next q => rw [h0, hs.2.2.2 i (by omega), hb.2.2.2 i (by omega)]
  have w0 : wF W 0 bs 0 = bs := wF_s
  have wf : ∀ f, f ≠ 0 → wF W 0 bs f = W f := fun f hf => wF_n hf
  have hmn := tw_makespanNow (w := wF W 0 bs) (bb := 500) (by omega) (Or.inl (by rw [wf 14 (by decide)]; exact h14)) (by rw [w0]; exact hb.1) (by rw [w0]; exact hb.2.1) (by rw [wf 13 (by decide)]; exact ho) (by rw [wf 14 (by decide), h14]; omega) (by rw [wf 15 (by decide)]; exact h15)
  rw [w0] at hmn
  have fin : ∀ rd st, fT (wF W 0 bs) 500 rd st → Q (.inl (some (.int (iI (mkS bs st))))) (tH (wt (wF W 0 bs) rd st)) := fun rd st hT => hq _ _ ⟨fuel, bs, k, le0, hle, ht, hb, by rw [wt_o (by decide) (by decide)]; exact w0, by rw [wt_o (by decide) (by decide), wf 10 (by decide)]; exact h10, hk, by rw [wt_o (by decide) (by decide), wf 3 (by decide)]; exact h3, fun f hf => by
      rw [wt_o (fun e => hf (by rw [e]; decide)) (fun e => hf (by rw [e]; decide)), wf f (fun e => hf (by rw [e]; decide))]; exact hF f hf, rd, st, by
      have := hT.1; rw [w0, wf 13 (by decide), wf 14 (by decide), h13, h14] at this; exact (Tp.hu0 this).cg hb.1 hI.o4, by have := hT.2.1; rw [w0, wf 13 (by decide), h13] at this; exact this.cg hb.1 hI.o4, rfl⟩
  refine z_aload_n K dX4_tabu_374 rfl rfl rfl ?_
  refine t_geta K fd_X4_61_0 rfl dX4_tabu_375 ?_
  refine j_iconst K dX4_tabu_378 ?_
  refine z_aload_n K dX4_tabu_379 rfl rfl rfl ?_
  refine t_geta K fd_X4_9_0 rfl dX4_tabu_380 ?_
  refine j_sipush K dX4_tabu_383 (by decide +kernel) ?_
  refine j_bipush K dX4_tabu_386 (by decide +kernel) ?_
  refine t_copy K 25 0 (by decide) (by decide) rfl rfl q2202 (by omega) (by omega) (by omega) (by decide) (by decide) (by omega) (by decide) dX4_tabu_388 ?_
  rw [show (0 : Int).toNat = 0 from rfl, show (183 : Int).toNat = 183 from rfl, show (20 : Int).toNat = 20 from rfl, e0]
  refine z_aload_n K dX4_tabu_391 rfl rfl rfl ?_
  refine t_calli K (hmn) cV_X4_188_X4 rfl rfl (by decide) (Nat.le_of_ble_eq_true rfl) (Nat.le_refl _) (Nat.le_refl _) dX4_tabu_392 ?_
  rintro _ _ ⟨rd, st, rfl, hT, rfl⟩
  exact z_iret K (by omega) (by omega) (fin rd st hT) dX4_tabu_395
theorem tw_tbPick (K : zK yX4_tabu cX4_tabu 14 (some .int) [] 8 0 0 X) {W1 : tW} {s rd st : Nat → Int} {la : Int → Int → Int} {k le : Int} (hA : WfA s) (hO : WfO s) (ho : ∀ m : Nat, m < 4 → 0 ≤ W1 13 m ∧ W1 13 m ≤ 1) (ho4 : ∀ m : Nat, m < 4 → W1 13 m = oB 0 m) (h14 : W1 14 0 = -1) (h15 : 0 ≤ W1 15 0 ∧ W1 15 0 ≤ 3000)
    (hla : ∀ a c : Int, 0 ≤ a → a < 20 → 0 ≤ c → c < 20 → W1 24 (20 * a + c).toNat = la a c ∧ 0 ≤ la a c ∧ la a c ≤ 20) (hsw : swB s (oB 0) rd st (pthS s (oB 0) rd st).length (W1 26)) (hr : ∀ i : Nat, i < (pthS s (oB 0) rd st).length → 0 ≤ pthF s (oB 0) rd st i ∧ pthF s (oB 0) rd st i < s 1) (hle : 0 ≤ le ∧ le ≤ 5000) (hk : 0 ≤ k ∧ k ≤ 20) (hte : 0 ≤ te ∧ te ≤ 9)
    (kont : ∀ (W2 : tW) (best bn : Int), W2 0 = s → Fr [0, 11, 12] W1 W2 → pkI s (oB 0) rd st (fbL la k te) le 20 best bn → (-1 ≤ bn ∧ bn ≤ 5000) → (-1 ≤ best ∧ best < 20) → ∀ env, zsub env [(0, .ref 1000), (1, .int (iI sa)), (2, .int (iI te)), (3, .int (iI le)), (5, .int (iI (k + 1))), (6, .int (iI best)), (7, .int (iI bn))] → zW X Q (tH W2) 0 0 272 env []) :
    ∀ (r i : Nat), i + r = 20 → ∀ (W2 : tW) (best bn : Int), W2 0 = s → Fr [0, 11, 12] W1 W2 → pkI s (oB 0) rd st (fbL la k te) le i best bn → (-1 ≤ bn ∧ bn ≤ 5000) → (-1 ≤ best ∧ best < 20) → ∀ env, zsub env [(0, .ref 1000), (1, .int (iI sa)), (2, .int (iI te)), (3, .int (iI le)), (5, .int (iI (k + 1))), (6, .int (iI best)), (7, .int (iI bn)), (8, .int (iI i))] → zW X Q (tH W2) 0 0 128 env [] := by
  have h20 := hA.2.1.1
  intro r
  induction r with
  | zero =>
    intro i hi W2 best bn w0 hF hp hbn hbe env he
    obtain rfl : i = 20 := by omega
    refine zW.cut he ?_
    have nx := kont W2 best bn w0 hF hp hbn hbe
    refine z_iload K dX4_tabu_128 rfl ?_
    refine j_bipush K dX4_tabu_130 (by decide +kernel) ?_
    refine j_icmp_ge (tgt := 272) K dX4_tabu_132 rfl (by omega) (by omega) (fun c_132 => ?_) (fun c_132 => ?_)
    · exact nx _ ⟨rfl, rfl, rfl, rfl, rfl, rfl, rfl, trivial⟩
    · exact absurd c_132 (by omega)
  | succ r ih =>
    intro i hi W2 best bn w0 hF hp hbn hbe env he
    refine zW.cut he ?_
    have nxt : ∀ (W3 : tW) (best bn : Int), W3 0 = s → Fr [0, 11, 12] W1 W3 → pkI s (oB 0) rd st (fbL la k te) le ((i : Int) + 1) best bn → (-1 ≤ bn ∧ bn ≤ 5000) → (-1 ≤ best ∧ best < 20) → ∀ env, zsub env [(0, .ref 1000), (1, .int (iI sa)), (2, .int (iI te)), (3, .int (iI le)), (5, .int (iI (k + 1))), (6, .int (iI best)), (7, .int (iI bn)), (8, .int (iI i))] → zW X Q (tH W3) 0 0 266 env [] := fun W3 best bn q1 q2 q3 q4 q5 env he => by
      refine zW.cut he ?_
      have nx := ih (i + 1) (by omega) W3 best bn q1 q2 q3 q4 q5
      clear ih kont
      refine j_iinc K dX4_tabu_266 rfl (by decide) rfl ?_
      refine z_goto (tgt := 128) K dX4_tabu_269 rfl ?_
      exact nx _ ⟨rfl, rfl, rfl, rfl, rfl, rfl, rfl, rfl, trivial⟩
    clear ih kont
    obtain ⟨b01, bsw⟩ := hsw i (by omega)
    have e26 : W2 26 = W1 26 := hF 26 (by decide)
    have e24 : W2 24 = W1 24 := hF 24 (by decide)
    have no : W1 26 i ≠ 1 → ∀ env, zsub env [(0, .ref 1000), (1, .int (iI sa)), (2, .int (iI te)), (3, .int (iI le)), (5, .int (iI (k + 1))), (6, .int (iI best)), (7, .int (iI bn)), (8, .int (iI i))] → zW X Q (tH W2) 0 0 266 env [] := fun hn => nxt W2 best bn w0 hF (hp.no (fun m p v q e => hn (bsw.mpr (by rw [← e]; exact ((adm_iff hA hO hr).mp q).2.2.1)))) hbn hbe
    have hyes : W1 26 i = 1 → ∀ env, zsub env [(0, .ref 1000), (1, .int (iI sa)), (2, .int (iI te)), (3, .int (iI le)), (5, .int (iI (k + 1))), (6, .int (iI best)), (7, .int (iI bn)), (8, .int (iI i))] → zW X Q (tH W2) 0 0 145 env [] := fun hy env he => by
      refine zW.cut he ?_
      have hsi := bsw.mp hy
      have dv := dv5 i (by omega)
      have md := md5 i (by omega)
      have him : i = 5 * (i / 5) + i % 5 := by omega
      have hm3 : i / 5 ≤ 3 := by omega
      have hp5 : i % 5 < 5 := by omega
      generalize i / 5 = m at *
      generalize i % 5 = p at *
      have eI : 5 * (m : Int) + p = i := by omega
      obtain ⟨j, j1, j2, j3⟩ := id hsi
      obtain ⟨p', z0, z1, z2, z3, z4, z5⟩ := pthF_adj hA hO j1 (hr _ j1) j2
      have mr := (hA.2.1.2 _ (hr j (by omega)).1 (hr j (by omega)).2).2.1
      have on := (hO _ mr.1 mr.2).1
      have em : sMc s (pthF s (oB 0) rd st j) = m := by omega
      have ep : p' = p := by omega
      subst ep
      rw [em] at z1 z4 z5 on
      have hxA := sXc_A (m := m) (p := p) (by omega) (by omega) hA
      have hxO := sXc_O (m := m) (p := p) hA hO (by omega) (by omega)
      have oo := (hO m (by omega) (by omega)).2.1
      have oa := (oo p (by omega) (by omega)).1
      have oc := (oo (p + 1) (by omega) (by omega)).1
      obtain ⟨la1, la2⟩ := hla _ _ oa.1 (by omega) oc.1 (by omega)
      have hwx0 : wXc W2 m p 0 = sXc s m p := by rw [wXc_0, w0]
      have hmn := tw_makespanNow (w := wXc W2 m p) (bb := 500) (by omega) (Or.inl (by rw [wXc_f (by decide), hF 14 (by decide)]; exact h14)) (by rw [hwx0]; exact hxA) (by rw [hwx0]; exact hxO) (by rw [wXc_f (by decide), hF 13 (by decide)]; exact ho) (by rw [wXc_f (by decide), hF 14 (by decide), h14]; omega) (by rw [wXc_f (by decide), hF 15 (by decide)]; exact h15)
      rw [hwx0] at hmn
      have c198 : ∀ rd' st', fT (wXc W2 m p) 500 rd' st' → ∀ env, zsub env [(0, .ref 1000), (1, .int (iI sa)), (2, .int (iI te)), (3, .int (iI le)), (5, .int (iI (k + 1))), (6, .int (iI best)), (7, .int (iI bn)), (8, .int (iI i)), (9, .int (iI m)), (10, .int (iI p)), (11, .int (iI (la (sOr s m p) (sOr s m (p + 1)))))] → zW X Q (tH (wt (wXc W2 m p) rd' st')) 0 0 198 env [.int (iI (mkS (sXc s m p) st'))] := fun rd' st' hT env he => by
        refine zW.cut he ?_
        have hmk : MkR (sXc s m p) (oB 0) (mkS (sXc s m p) st') := by
          have t1 := hT.1
          have t2 := hT.2.1
          rw [hwx0, wXc_f (by decide), wXc_f (by decide), hF 13 (by decide), hF 14 (by decide), h14] at t1
          rw [hwx0, wXc_f (by decide), hF 13 (by decide)] at t2
          exact ⟨rd', st', (Tp.hu0 t1).cg hxA ho4, t2.cg hxA ho4, rfl⟩
        have hnr : -1 ≤ mkS (sXc s m p) st' ∧ mkS (sXc s m p) st' ≤ 5000 := by
          have t3 := hT.2.2
          rw [hwx0] at t3
          unfold mkS
          split
          · omega
          · have := gEnd_r (s := sXc s m p) (st := st') (n := (sXc s m p 1).toNat) hxA (by have := hxA.2.1.1; omega) (fun i hi => by have := t3 i hi; omega)
            omega
        generalize mkS (sXc s m p) st' = now at *
        have W30 : wXc (wt (wXc W2 m p) rd' st') m p 0 = s := by rw [wXc_0, wt_o (by decide) (by decide), hwx0, sXc_twice (by omega) (by omega)]
        have W3F : Fr [0, 11, 12] W1 (wXc (wt (wXc W2 m p) rd' st') m p) := fun f hf => by
          rw [wXc_f (fun e => hf (by rw [e]; decide)), wt_o (fun e => hf (by rw [e]; decide)) (fun e => hf (by rw [e]; decide)), wXc_f (fun e => hf (by rw [e]; decide))]
          exact hF f hf
        have hex := tw_exchange (w := wt (wXc W2 m p) rd' st') (m := m) (p := p) (by omega) (by omega)
        generalize wXc (wt (wXc W2 m p) rd' st') m p = W3 at *
        have uq : ∀ m' p' v', admT s (oB 0) rd st (fbL la k te) le (pthS s (oB 0) rd st).length m' p' v' → 5 * m' + p' = i → v' = now ∧ 0 ≤ now ∧ (¬ fbL la k te (sOr s m p) (sOr s m (p + 1)) ∨ now < le) := fun m' p' v' q e => by
          obtain ⟨a1, a2, -, a4, a5, a6⟩ := (adm_iff hA hO hr).mp q
          have on' := (hO m' a1.1 a1.2).1
          obtain rfl : m' = m := by omega
          obtain rfl : p' = p := by omega
          have := a4.uniq hxA hxO hmk
          subst this
          exact ⟨rfl, a5, a6⟩
        have k258 : 0 ≤ now → (¬ fbL la k te (sOr s m p) (sOr s m (p + 1)) ∨ now < le) → (best = -1 ∨ now < bn) → ∀ env, zsub env [(0, .ref 1000), (1, .int (iI sa)), (2, .int (iI te)), (3, .int (iI le)), (5, .int (iI (k + 1))), (8, .int (iI i)), (12, .int (iI now))] → zW X Q (tH W3) 0 0 258 env [] := fun a1 a2 a3 env he => by
          refine zW.cut he ?_
          have nx := nxt W3 i now W30 W3F (hp.new (m := m) (p := p) ((adm_iff hA hO hr).mpr ⟨by omega, ⟨by omega, z1⟩, by rw [eI]; exact hsi, hmk, a1, a2⟩) eI (fun m' p' v' q e => (uq m' p' v' q e).1) a3 (fun m' p' v' q => by have := (adm_iff hA hO hr).mp q; omega)) (by omega) (by omega)
          clear nxt
          refine z_iload K dX4_tabu_258 rfl ?_
          refine z_istore K dX4_tabu_260 (by decide) rfl ?_
          refine z_iload K dX4_tabu_262 rfl ?_
          refine z_istore K dX4_tabu_264 (by decide) rfl ?_
          exact nx _ ⟨rfl, rfl, rfl, rfl, rfl, rfl, rfl, rfl, trivial⟩
        have k233 : ∀ fv : Int, (fv = 0 ∨ fv = 1) → (fv = 1 ↔ (fbL la k te (sOr s m p) (sOr s m (p + 1)) ∧ le ≤ now)) → ∀ env, zsub env [(0, .ref 1000), (1, .int (iI sa)), (2, .int (iI te)), (3, .int (iI le)), (5, .int (iI (k + 1))), (6, .int (iI best)), (7, .int (iI bn)), (8, .int (iI i)), (12, .int (iI now))] → zW X Q (tH W3) 0 0 233 env [.int (iI fv)] := fun fv hf0 hf env he => by
          refine zW.cut he ?_
          have dead : ¬ (0 ≤ now ∧ (¬ fbL la k te (sOr s m p) (sOr s m (p + 1)) ∨ now < le)) → ∀ env, zsub env [(0, .ref 1000), (1, .int (iI sa)), (2, .int (iI te)), (3, .int (iI le)), (5, .int (iI (k + 1))), (6, .int (iI best)), (7, .int (iI bn)), (8, .int (iI i))] → zW X Q (tH W3) 0 0 266 env [] := fun hn => nxt W3 best bn W30 W3F (hp.no (fun m' p' v' q e => hn (uq m' p' v' q e).2)) hbn hbe
          have live : fv = 0 → (¬ fbL la k te (sOr s m p) (sOr s m (p + 1)) ∨ now < le) := fun q => by
            by_cases z : fbL la k te (sOr s m p) (sOr s m (p + 1))
            · right
              rcases Int.lt_or_le now le with z2 | z2
              · exact z2
              · have := hf.mpr ⟨z, z2⟩; omega
            · exact Or.inl z
          have keep : best ≠ -1 → bn ≤ now → ∀ env, zsub env [(0, .ref 1000), (1, .int (iI sa)), (2, .int (iI te)), (3, .int (iI le)), (5, .int (iI (k + 1))), (6, .int (iI best)), (7, .int (iI bn)), (8, .int (iI i))] → zW X Q (tH W3) 0 0 266 env [] := fun a1 a2 => nxt W3 best bn W30 W3F (hp.old a1 (fun m' p' v' q e => by rw [(uq m' p' v' q e).1]; exact a2)) hbn hbe
          clear nxt
          refine z_istore K dX4_tabu_233 (by decide) rfl ?_
          refine z_iload K dX4_tabu_235 rfl ?_
          refine j_if_lt (tgt := 266) K dX4_tabu_237 rfl (by omega) (fun c_237 => ?_) (fun c_237 => ?_)
          · have nx := dead (fun q => by omega)
            exact nx _ ⟨rfl, rfl, rfl, rfl, rfl, rfl, rfl, rfl, trivial⟩
          · refine z_iload K dX4_tabu_240 rfl ?_
            refine j_if_ne (tgt := 266) K dX4_tabu_242 rfl (by omega) (fun c_242 => ?_) (fun c_242 => ?_)
            · have nx := dead (fun q => by have z := hf.mp (by omega); rcases q.2 with q2 | q2; exact q2 z.1; omega)
              exact nx _ ⟨rfl, rfl, rfl, rfl, rfl, rfl, rfl, rfl, trivial⟩
            · refine z_iload K dX4_tabu_245 rfl ?_
              refine j_iconst K dX4_tabu_247 ?_
              refine j_icmp_eq (tgt := 258) K dX4_tabu_248 rfl (by omega) (by omega) (fun c_248 => ?_) (fun c_248 => ?_)
              · have nx := k258 c_237 (live (by omega)) (Or.inl c_248)
                exact nx _ ⟨rfl, rfl, rfl, rfl, rfl, rfl, rfl, trivial⟩
              · refine z_iload K dX4_tabu_251 rfl ?_
                refine z_iload K dX4_tabu_253 rfl ?_
                refine j_icmp_ge (tgt := 266) K dX4_tabu_255 rfl (by omega) (by omega) (fun c_255 => ?_) (fun c_255 => ?_)
                · have nx := keep c_248 c_255
                  exact nx _ ⟨rfl, rfl, rfl, rfl, rfl, rfl, rfl, rfl, trivial⟩
                · have nx := k258 c_237 (live (by omega)) (Or.inr c_255)
                  exact nx _ ⟨rfl, rfl, rfl, rfl, rfl, rfl, rfl, trivial⟩
        clear nxt k258
        have fbe : ∀ P : Prop, (P ↔ fbL la k te (sOr s m p) (sOr s m (p + 1)) ∧ le ≤ now) ↔ (P ↔ (0 < la (sOr s m p) (sOr s m (p + 1)) ∧ k + 1 - te ≤ la (sOr s m p) (sOr s m (p + 1))) ∧ le ≤ now) := fun P => Iff.rfl
        generalize la (sOr s m p) (sOr s m (p + 1)) = lv at *
        refine z_istore K dX4_tabu_198 (by decide) rfl ?_
        refine z_aload_n K dX4_tabu_200 rfl rfl rfl ?_
        refine z_iload K dX4_tabu_201 rfl ?_
        refine z_iload K dX4_tabu_203 rfl ?_
        refine t_callv K (hex) cV_X4_221_X4 rfl rfl (by decide) (Nat.le_of_ble_eq_true rfl) (Nat.le_refl _) (Nat.le_refl _) dX4_tabu_205 ?_
        rintro _ rfl
        refine z_iload K dX4_tabu_208 rfl ?_
        refine j_if_le (tgt := 232) K dX4_tabu_210 rfl (by omega) (fun c_210 => ?_) (fun c_210 => ?_)
        · have nx := k233 0 (Or.inl rfl) ((fbe _).mpr (by omega))
          refine j_iconst K dX4_tabu_232 ?_
          exact nx _ ⟨rfl, rfl, rfl, rfl, rfl, rfl, rfl, rfl, rfl, trivial⟩
        · refine z_iload K dX4_tabu_213 rfl ?_
          refine z_iload K dX4_tabu_215 rfl ?_
          refine z_iload_n K dX4_tabu_217 rfl rfl ?_
          refine j_isub K dX4_tabu_218 ?_
          refine j_icmp_lt (tgt := 232) K dX4_tabu_219 rfl (by omega) (by omega) (fun c_219 => ?_) (fun c_219 => ?_)
          · have nx := k233 0 (Or.inl rfl) ((fbe _).mpr (by omega))
            refine j_iconst K dX4_tabu_232 ?_
            exact nx _ ⟨rfl, rfl, rfl, rfl, rfl, rfl, rfl, rfl, rfl, trivial⟩
          · refine z_iload K dX4_tabu_222 rfl ?_
            refine z_iload_n K dX4_tabu_224 rfl rfl ?_
            refine j_icmp_lt (tgt := 232) K dX4_tabu_225 rfl (by omega) (by omega) (fun c_225 => ?_) (fun c_225 => ?_)
            · have nx := k233 0 (Or.inl rfl) ((fbe _).mpr (by omega))
              refine j_iconst K dX4_tabu_232 ?_
              exact nx _ ⟨rfl, rfl, rfl, rfl, rfl, rfl, rfl, rfl, rfl, trivial⟩
            · have nx := k233 1 (Or.inr rfl) ((fbe _).mpr (by omega))
              refine j_iconst K dX4_tabu_228 ?_
              refine z_goto (tgt := 233) K dX4_tabu_229 rfl ?_
              exact nx _ ⟨rfl, rfl, rfl, rfl, rfl, rfl, rfl, rfl, rfl, trivial⟩
      clear nxt no
      have or1 := tw_ordered (w := W2) (m := m) (p := p) (by omega) (by omega)
      have or2 := tw_ordered (w := W2) (m := m) (p := (p : Int) + 1) (by omega) (by omega)
      rw [w0] at or1 or2
      have hex := tw_exchange (w := W2) (m := m) (p := p) (by omega) (by omega)
      have e24' : W2 24 (20 * sOr s m p + sOr s m (p + 1)).toNat = la (sOr s m p) (sOr s m (p + 1)) := by rw [e24]; exact la1
      have or1 : tMi yX4_ordered cX4_ordered 3 .int 1 [.int (iI m), .int (iI p)] W2 (fun v w' => v = sOr s m p ∧ w' = W2) := or1
      have or2 : tMi yX4_ordered cX4_ordered 3 .int 1 [.int (iI m), .int (iI ((p : Int) + 1))] W2 (fun v w' => v = sOr s m (p + 1) ∧ w' = W2) := or2
      generalize hla9 : la (sOr s m p) (sOr s m (p + 1)) = lv at *
      generalize sOr s m p = oa9 at *
      generalize sOr s m (p + 1) = oc9 at *
      refine z_iload K dX4_tabu_145 rfl ?_
      refine j_iconst K dX4_tabu_147 ?_
      refine z_idiv K dX4_tabu_148 (by decide) ?_
      rw [dv]
      refine z_istore K dX4_tabu_149 (by decide) rfl ?_
      refine z_iload K dX4_tabu_151 rfl ?_
      refine j_iconst K dX4_tabu_153 ?_
      refine z_irem K dX4_tabu_154 (by decide) ?_
      rw [md]
      refine z_istore K dX4_tabu_155 (by decide) rfl ?_
      refine z_aload_n K dX4_tabu_157 rfl rfl rfl ?_
      refine t_geta K fd_X4_58_0 rfl dX4_tabu_158 ?_
      refine j_bipush K dX4_tabu_161 (by decide +kernel) ?_
      refine z_aload_n K dX4_tabu_163 rfl rfl rfl ?_
      refine z_iload K dX4_tabu_164 rfl ?_
      refine z_iload K dX4_tabu_166 rfl ?_
      refine t_callp K (or1) cV_X4_142_X4 rfl rfl (by decide) (Nat.le_of_ble_eq_true rfl) (Nat.le_refl _) (Nat.le_refl _) dX4_tabu_168 ?_
      refine j_imul K dX4_tabu_171 ?_
      refine z_aload_n K dX4_tabu_172 rfl rfl rfl ?_
      refine z_iload K dX4_tabu_173 rfl ?_
      refine z_iload K dX4_tabu_175 rfl ?_
      refine j_iconst K dX4_tabu_177 ?_
      refine j_iadd K dX4_tabu_178 ?_
      refine t_callp K (or2) cV_X4_142_X4 rfl rfl (by decide) (Nat.le_of_ble_eq_true rfl) (Nat.le_refl _) (Nat.le_refl _) dX4_tabu_179 ?_
      refine j_iadd K dX4_tabu_182 ?_
      refine t_ild K 24 400 rfl rfl rfl (by omega) (by omega) rfl dX4_tabu_183 ?_
      rw [e24']
      refine z_istore K dX4_tabu_184 (by decide) rfl ?_
      refine z_aload_n K dX4_tabu_186 rfl rfl rfl ?_
      refine z_iload K dX4_tabu_187 rfl ?_
      refine z_iload K dX4_tabu_189 rfl ?_
      refine t_callv K (hex) cV_X4_221_X4 rfl rfl (by decide) (Nat.le_of_ble_eq_true rfl) (Nat.le_refl _) (Nat.le_refl _) dX4_tabu_191 ?_
      rintro _ rfl
      refine z_aload_n K dX4_tabu_194 rfl rfl rfl ?_
      refine t_calli K (hmn) cV_X4_188_X4 rfl rfl (by decide) (Nat.le_of_ble_eq_true rfl) (Nat.le_refl _) (Nat.le_refl _) dX4_tabu_195 ?_
      rintro _ _ ⟨rd', st', rfl, hT, rfl⟩
      exact c198 rd' st' hT _ ⟨rfl, rfl, rfl, rfl, rfl, rfl, rfl, rfl, rfl, rfl, rfl, trivial⟩
    clear nxt
    refine z_iload K dX4_tabu_128 rfl ?_
    refine j_bipush K dX4_tabu_130 (by decide +kernel) ?_
    refine j_icmp_ge (tgt := 272) K dX4_tabu_132 rfl (by omega) (by omega) (fun c_132 => ?_) (fun c_132 => ?_)
    · exact absurd c_132 (by omega)
    · refine z_aload_n K dX4_tabu_135 rfl rfl rfl ?_
      refine t_geta K fd_X4_64_0 rfl dX4_tabu_136 ?_
      refine z_iload K dX4_tabu_139 rfl ?_
      refine t_zld K 26 20 rfl rfl rfl (by omega) (by omega) rfl dX4_tabu_141 ?_
      rw [e26, Int.toNat_natCast]
      refine j_if_eq (tgt := 266) K dX4_tabu_142 rfl (by omega) (fun c_142 => ?_) (fun c_142 => ?_)
      · have nx := no (by omega)
        exact nx _ ⟨rfl, rfl, rfl, rfl, rfl, rfl, rfl, rfl, trivial⟩
      · have nx := hyes (by omega)
        exact nx _ ⟨rfl, rfl, rfl, rfl, rfl, rfl, rfl, rfl, trivial⟩
theorem swB_cg {s o o' rd st rd' st' : Nat → Int} (e : pthS s o rd st = pthS s o' rd' st') {n : Nat} {b : Nat → Int} (h : swB s o rd st n b) : swB s o' rd' st' n b := fun i hi => by
  have q := h i hi
  unfold swI at q ⊢
  simp only [pthF_cg e] at q
  exact q
theorem sXc_p {s : Nat → Int} {m p : Int} (hm : 0 ≤ m) (hp : 0 ≤ p) : sOr (sXc s m p) m p = sOr s m (p + 1) ∧ sOr (sXc s m p) m (p + 1) = sOr s m p := by
  unfold sXc
  constructor
  · show sup _ _ _ (183 + 5 * m + p).toNat = _
    rw [sup_n (by omega), sup_s]
  · exact sup_s
theorem tw_tbLoop (K : zK yX4_tabu cX4_tabu 14 (some .int) [] 8 0 0 X) (hI : TI w) (hq : ∀ v W, tabQ w sa te v W → Q (.inl (some (.int (iI v)))) (tH W)) {le0 : Int} (hle0 : MkR (w 0) (oB 0) le0) (hsa : 0 ≤ sa ∧ sa ≤ 20) (hte : 0 ≤ te ∧ te ≤ 9) :
    ∀ (r : Nat) (W : tW) (s bs : Nat → Int) (la : Int → Int → Int) (k le : Int), k + r = sa → 0 ≤ k → tbI w W s la bs k → (0 ≤ le ∧ le ≤ 5000) → (∀ fuel bs' k', tbR te sa fuel s la le bs k bs' k' → ∃ fuel, tbR te sa fuel (w 0) (fun _ _ => 0) le0 (w 0) 0 bs' k') → ∀ env, zsub env [(0, .ref 1000), (1, .int (iI sa)), (2, .int (iI te)), (3, .int (iI le)), (4, .int (iI 1))] → zW X Q (tH W) 0 0 94 env [] := by
  intro r
  induction r with
  | zero =>
    intro W s bs la k le hk k0 h hle kn env he
    refine zW.cut he ?_
    obtain ⟨fuel, ht⟩ := kn 1 bs k (Or.inl ⟨by omega, rfl, rfl⟩)
    have nx := tw_tbEnd K hI hq hle0 h (by omega) ht
    have e10 : W 10 0 = k := h.2.2.2.1
    clear kn
    refine z_iload K dX4_tabu_94 rfl ?_
    refine j_if_eq (tgt := 374) K dX4_tabu_96 rfl (by decide) (fun c_96 => ?_) (fun c_96 => ?_)
    · exact absurd c_96 (by decide)
    · refine z_aload_n K dX4_tabu_99 rfl rfl rfl ?_
      refine t_geti K fd_X4_270_0 (by decide) rfl dX4_tabu_100 ?_
      rw [e10]
      refine z_iload_n K dX4_tabu_103 rfl rfl ?_
      refine j_icmp_ge (tgt := 374) K dX4_tabu_104 rfl (by omega) (by omega) (fun c_104 => ?_) (fun c_104 => ?_)
      · exact nx _ ⟨rfl, trivial⟩
      · exact absurd c_104 (by omega)
  | succ r ih =>
    intro W s bs la k le hk k0 h hle kn env he
    refine zW.cut he ?_
    have e10 : W 10 0 = k := h.2.2.2.1
    obtain ⟨h13, ho, h14, h15⟩ := h.pre hI
    obtain ⟨h0, hF, h3, -, h24, h25, hs, hb⟩ := id h
    have hA := hs.1
    have hO := hs.2.1
    have ho4 : ∀ m : Nat, m < 4 → W 13 m = oB 0 m := by rw [h13]; exact hI.o4
    have hfs := tw_findSwaps (w := W) (by rw [h0]; exact hA) (by rw [h0]; exact hO) ho h14 h15 (fun rd st hT => by
      have t2 := hT.2.1
      rw [h0] at t2
      rw [h0]
      exact hs.2.2.1.u0 hA hO (t2.cg hA ho4))
    rw [h0] at hfs
    have c119 : ∀ (rd st : Nat → Int) (W1 : tW), fT W 500 rd st → Fr [11, 12, 16, 17, 26] W W1 → swB s (W 13) rd st (pthS s (W 13) rd st).length (W1 26) → (∀ i : Nat, i < (pthS s (W 13) rd st).length → 0 ≤ pthF s (W 13) rd st i ∧ pthF s (W 13) rd st i < s 1) → ∀ env, zsub env [(0, .ref 1000), (1, .int (iI sa)), (2, .int (iI te)), (3, .int (iI le)), (5, .int (iI (k + 1)))] → zW X Q (tH W1) 0 0 119 env [] := by
      intro rd st W1 hT hF1 hsw hr env he
      refine zW.cut he ?_
      have ep : pthS s (W 13) rd st = pthS s (oB 0) rd st := pthS_cg hA hO ho4 (fun _ _ _ => ⟨rfl, rfl⟩)
      have hsw := swB_cg ep hsw
      simp only [pthF_cg ep] at hr
      rw [ep] at hsw hr
      have hT1 : Tp s (oB 0) (-1) 0 rd st := by have t1 := hT.1; rw [h0, h14] at t1; exact (Tp.hu0 t1).cg hA ho4
      have hT2 : Tq s (oB 0) st := by have t2 := hT.2.1; rw [h0] at t2; exact t2.cg hA ho4
      have W1f : ∀ f, f ∉ [11, 12, 16, 17, 26] → W1 f = W f := hF1
      have tb1 : ∀ W2 : tW, W2 0 = s → Fr [0, 11, 12] W1 W2 → tbI w W2 s la bs k := fun W2 w0 hF2 => by
        have g : ∀ f, f ∉ [0, 11, 12, 16, 17, 26] → W2 f = W f := fun f hf => (hF2 f (fun e => hf (by revert e; simp; omega))).trans (W1f f (fun e => hf (by revert e; simp; omega)))
        refine ⟨w0, fun f hf => ?_, by rw [g 3 (by decide)]; exact h3, by rw [g 10 (by decide)]; exact e10, by rw [g 24 (by decide)]; exact h24, by rw [g 25 (by decide)]; exact h25, hs, hb⟩
        rw [g f (fun e => hf (by revert e; simp; omega))]
        exact hF f hf
      have k272 : ∀ (W2 : tW) (best bn : Int), W2 0 = s → Fr [0, 11, 12] W1 W2 → pkI s (oB 0) rd st (fbL la k te) le 20 best bn → (-1 ≤ bn ∧ bn ≤ 5000) → (-1 ≤ best ∧ best < 20) → ∀ env, zsub env [(0, .ref 1000), (1, .int (iI sa)), (2, .int (iI te)), (3, .int (iI le)), (5, .int (iI (k + 1))), (6, .int (iI best)), (7, .int (iI bn))] → zW X Q (tH W2) 0 0 272 env [] := by
        intro W2 best bn w0 hF2 hp hbn hbe env he
        refine zW.cut he ?_
        have tb2 := tb1 W2 w0 hF2
        rcases hp.pck hA hO hr with ⟨rfl, hn⟩ | ⟨m, p, hbm, hm, hp5, hp6, hpk⟩
        · obtain ⟨fuel, ht⟩ := kn 1 bs k (Or.inr ⟨by omega, rd, st, hT1, hT2, Or.inl ⟨hn, rfl, rfl⟩⟩)
          have nx := tw_tbEnd K hI hq hle0 tb2 (by omega) ht
          clear kn ih
          refine z_iload K dX4_tabu_272 rfl ?_
          refine j_iconst K dX4_tabu_274 ?_
          refine j_icmp_eq (tgt := 282) K dX4_tabu_275 rfl (by omega) (by omega) (fun c_275 => ?_) (fun c_275 => ?_)
          · refine j_iconst K dX4_tabu_282 ?_
            refine z_istore K dX4_tabu_283 (by decide) rfl ?_
            refine z_iload K dX4_tabu_285 rfl ?_
            refine j_if_eq (tgt := 371) K dX4_tabu_287 rfl (by decide) (fun c_287 => ?_) (fun c_287 => ?_)
            · refine z_goto (tgt := 94) K dX4_tabu_371 rfl ?_
              refine z_iload K dX4_tabu_94 rfl ?_
              refine j_if_eq (tgt := 374) K dX4_tabu_96 rfl (by decide) (fun c_96 => ?_) (fun c_96 => ?_)
              · exact nx _ ⟨rfl, trivial⟩
              · exact absurd rfl c_96
            · exact absurd rfl c_287
          · exact absurd rfl c_275
        · obtain ⟨mn, rfl⟩ := Int.eq_ofNat_of_zero_le hm.1
          obtain ⟨pn, rfl⟩ := Int.eq_ofNat_of_zero_le hp5.1
          obtain ⟨bN, hbN⟩ := Int.eq_ofNat_of_zero_le (show 0 ≤ best by omega)
          subst hbN
          have hmk : MkR (sXc s mn pn) (oB 0) bn ∧ 0 ≤ bn := by obtain ⟨⟨i, _, _, _, _, q, q2, _⟩, _⟩ := hpk; exact ⟨q, q2⟩
          have dv := dv5 bN (by omega)
          have md := md5 bN (by omega)
          rw [show bN / 5 = mn by omega] at dv
          rw [show bN % 5 = pn by omega] at md
          have okx : okR (w 0) (sXc s mn pn) := hs.sx (by omega) ⟨by omega, hp5.2⟩ hmk.1 hmk.2
          have oo := (hO mn (by omega) (by omega)).2.1
          have oa := (oo pn (by omega) (by omega)).1
          have oc := (oo (pn + 1) (by omega) (by omega)).1
          have h20 := hA.2.1.1
          obtain ⟨xp1, xp2⟩ := sXc_p (s := s) (m := mn) (p := pn) (by omega) (by omega)
          have hex := tw_exchange (w := W2) (m := mn) (p := pn) (by omega) (by omega)
          have W30 : wXc W2 mn pn 0 = sXc s mn pn := by rw [wXc_0, w0]
          have or1 : tMi yX4_ordered cX4_ordered 3 .int 1 [.int (iI mn), .int (iI pn)] (wXc W2 mn pn) (fun v w' => v = sOr s mn (pn + 1) ∧ w' = wXc W2 mn pn) := by
            have q := tw_ordered (w := wXc W2 mn pn) (m := mn) (p := pn) (by omega) (by omega)
            rw [W30] at q
            rw [← xp1]
            exact q
          have or2 : tMi yX4_ordered cX4_ordered 3 .int 1 [.int (iI mn), .int (iI ((pn : Int) + 1))] (wXc W2 mn pn) (fun v w' => v = sOr s mn pn ∧ w' = wXc W2 mn pn) := by
            have q := tw_ordered (w := wXc W2 mn pn) (m := mn) (p := (pn : Int) + 1) (by omega) (by omega)
            rw [W30] at q
            rw [← xp2]
            exact q
          -- the world with what was made
          generalize hW4 : tset (tset (wXc W2 mn pn) 24 (20 * sOr s mn (pn + 1) + sOr s mn pn).toNat (k + 1)) 10 0 (k + 1) = W4
          have W4f : ∀ f, f ≠ 0 → f ≠ 24 → f ≠ 10 → W4 f = W2 f := fun f f0 f1 f2 => by rw [← hW4, tset_g f2, tset_g f1, wXc_f f0]
          have W40 : W4 0 = sXc s mn pn := by rw [← hW4, tset_g (by decide), tset_g (by decide)]; exact W30
          have W410 : W4 10 0 = k + 1 := by rw [← hW4]; exact tset_s
          have W424 : ∀ a c : Int, 0 ≤ a → a < 20 → 0 ≤ c → c < 20 → W4 24 (20 * a + c).toNat = laU la (sOr s mn (pn + 1)) (sOr s mn pn) (k + 1) a c ∧ 0 ≤ laU la (sOr s mn (pn + 1)) (sOr s mn pn) (k + 1) a c ∧ laU la (sOr s mn (pn + 1)) (sOr s mn pn) (k + 1) a c ≤ 20 := fun a c a0 a1 c0 c1 => by
            rw [← hW4, tset_g (by decide)]
            unfold laU
            by_cases e : a = sOr s mn (pn + 1) ∧ c = sOr s mn pn
            · rw [if_pos e, e.1, e.2]
              exact ⟨tset_s, by omega⟩
            · rw [if_neg e, tset_i (by omega), wXc_f (by decide)]
              exact tb2.2.2.2.2.1 a c a0 a1 c0 c1
          have tb4 : ∀ (W5 : tW) (bs' : Nat → Int), W5 0 = sXc s mn pn → (∀ f, f ≠ 25 → W5 f = W4 f) → (∀ i : Nat, i < 20 → W5 25 i = bs' (183 + i)) → okR (w 0) bs' → tbI w W5 (sXc s mn pn) (laU la (sOr s mn (pn + 1)) (sOr s mn pn) (k + 1)) bs' (k + 1) := fun W5 bs' q0 q1 q2 q3 => ⟨q0, fun f hf => by
              rw [q1 f (fun e => hf (by rw [e]; decide)), W4f f (fun e => hf (by rw [e]; decide)) (fun e => hf (by rw [e]; decide)) (fun e => hf (by rw [e]; decide))]
              exact tb2.2.1 f hf, by rw [q1 3 (by decide), W4f 3 (by decide) (by decide) (by decide)]; exact tb2.2.2.1, by rw [q1 10 (by decide)]; exact W410, by rw [q1 24 (by decide)]; exact W424, q2, okx, q3⟩
          have kn2 : ∀ fuel bs' k', tbR te sa fuel (sXc s mn pn) (laU la (sOr s mn (pn + 1)) (sOr s mn pn) (k + 1)) (if bn < le then bn else le) (if bn < le then sXc s mn pn else bs) (k + 1) bs' k' → ∃ fuel, tbR te sa fuel (w 0) (fun _ _ => 0) le0 (w 0) 0 bs' k' := fun fuel bs' k' q => kn (fuel + 1) bs' k' (Or.inr ⟨by omega, rd, st, hT1, hT2, Or.inr ⟨mn, pn, bn, hpk, q⟩⟩)
          have nxN : ¬ bn < le → ∀ env, zsub env [(0, .ref 1000), (1, .int (iI sa)), (2, .int (iI te)), (3, .int (iI le)), (4, .int (iI 1))] → zW X Q (tH W4) 0 0 94 env [] := fun hn => by
            rw [if_neg hn, if_neg hn] at kn2
            exact ih W4 _ bs _ (k + 1) le (by omega) (by omega) (tb4 W4 bs W40 (fun _ _ => rfl) (fun i hi => by rw [W4f 25 (by decide) (by decide) (by decide)]; exact tb2.2.2.2.2.2.1 i hi) hb) hle kn2
          have nxY : bn < le → ∀ env, zsub env [(0, .ref 1000), (1, .int (iI sa)), (2, .int (iI te)), (3, .int (iI bn)), (4, .int (iI 1))] → zW X Q (tH (wF W4 25 (va_cpy (W4 0) (W4 25) 183 0 20))) 0 0 94 env [] := fun hn => by
            rw [if_pos hn, if_pos hn] at kn2
            refine ih _ _ (sXc s mn pn) _ (k + 1) bn (by omega) (by omega) (tb4 _ _ (by rw [wF_n (by decide)]; exact W40) (fun f hf => wF_n hf) (fun i hi => ?_) okx) ⟨hmk.2, hbn.2⟩ kn2
            rw [wF_s, W40]
            unfold va_cpy
            rw [if_pos (by omega)]
            exact congrArg _ (by omega)
          have k345 : ∀ env, zsub env [(0, .ref 1000), (1, .int (iI sa)), (2, .int (iI te)), (3, .int (iI le)), (4, .int (iI 1)), (7, .int (iI bn))] → zW X Q (tH W4) 0 0 345 env [] := fun env he => by
            refine zW.cut he ?_
            clear kn kn2 ih
            refine z_iload K dX4_tabu_345 rfl ?_
            refine z_iload_n K dX4_tabu_347 rfl rfl ?_
            refine j_icmp_ge (tgt := 371) K dX4_tabu_348 rfl (by omega) (by omega) (fun c_348 => ?_) (fun c_348 => ?_)
            · have nx := nxN (by omega)
              refine z_goto (tgt := 94) K dX4_tabu_371 rfl ?_
              exact nx _ ⟨rfl, rfl, rfl, rfl, rfl, trivial⟩
            · have nx := nxY (by omega)
              refine z_iload K dX4_tabu_351 rfl ?_
              refine z_istore_n K dX4_tabu_353 rfl (by decide) rfl ?_
              refine z_aload_n K dX4_tabu_354 rfl rfl rfl ?_
              refine t_geta K fd_X4_9_0 rfl dX4_tabu_355 ?_
              refine j_sipush K dX4_tabu_358 (by decide +kernel) ?_
              refine z_aload_n K dX4_tabu_361 rfl rfl rfl ?_
              refine t_geta K fd_X4_61_0 rfl dX4_tabu_362 ?_
              refine j_iconst K dX4_tabu_365 ?_
              refine j_bipush K dX4_tabu_366 (by decide +kernel) ?_
              refine t_copy K 0 25 (by decide) (by decide) rfl rfl q2202 (by omega) (by omega) (by omega) (by decide) (by decide) (by omega) (by decide) dX4_tabu_368 ?_
              refine z_goto (tgt := 94) K dX4_tabu_371 rfl ?_
              exact nx _ ⟨rfl, rfl, rfl, rfl, rfl, trivial⟩
          clear kn kn2 ih nxN nxY tb4 W424
          generalize sOr s mn (pn + 1) = oc9 at *
          generalize sOr s mn pn = oa9 at *
          refine z_iload K dX4_tabu_272 rfl ?_
          refine j_iconst K dX4_tabu_274 ?_
          refine j_icmp_eq (tgt := 282) K dX4_tabu_275 rfl (by omega) (by omega) (fun c_275 => ?_) (fun c_275 => ?_)
          · exact absurd c_275 (by omega)
          · refine j_iconst K dX4_tabu_278 ?_
            refine z_goto (tgt := 283) K dX4_tabu_279 rfl ?_
            refine z_istore K dX4_tabu_283 (by decide) rfl ?_
            refine z_iload K dX4_tabu_285 rfl ?_
            refine j_if_eq (tgt := 371) K dX4_tabu_287 rfl (by decide) (fun c_287 => ?_) (fun c_287 => ?_)
            · exact absurd c_287 (by decide)
            · refine z_iload K dX4_tabu_290 rfl ?_
              refine j_iconst K dX4_tabu_292 ?_
              refine z_idiv K dX4_tabu_293 (by decide) ?_
              rw [dv]
              refine z_istore K dX4_tabu_294 (by decide) rfl ?_
              refine z_iload K dX4_tabu_296 rfl ?_
              refine j_iconst K dX4_tabu_298 ?_
              refine z_irem K dX4_tabu_299 (by decide) ?_
              rw [md]
              refine z_istore K dX4_tabu_300 (by decide) rfl ?_
              refine z_aload_n K dX4_tabu_302 rfl rfl rfl ?_
              refine z_iload K dX4_tabu_303 rfl ?_
              refine z_iload K dX4_tabu_305 rfl ?_
              refine t_callv K (hex) cV_X4_221_X4 rfl rfl (by decide) (Nat.le_of_ble_eq_true rfl) (Nat.le_refl _) (Nat.le_refl _) dX4_tabu_307 ?_
              rintro _ rfl
              refine z_aload_n K dX4_tabu_310 rfl rfl rfl ?_
              refine t_geta K fd_X4_58_0 rfl dX4_tabu_311 ?_
              refine j_bipush K dX4_tabu_314 (by decide +kernel) ?_
              refine z_aload_n K dX4_tabu_316 rfl rfl rfl ?_
              refine z_iload K dX4_tabu_317 rfl ?_
              refine z_iload K dX4_tabu_319 rfl ?_
              refine t_callp K (or1) cV_X4_142_X4 rfl rfl (by decide) (Nat.le_of_ble_eq_true rfl) (Nat.le_refl _) (Nat.le_refl _) dX4_tabu_321 ?_
              refine j_imul K dX4_tabu_324 ?_
              refine z_aload_n K dX4_tabu_325 rfl rfl rfl ?_
              refine z_iload K dX4_tabu_326 rfl ?_
              refine z_iload K dX4_tabu_328 rfl ?_
              refine j_iconst K dX4_tabu_330 ?_
              refine j_iadd K dX4_tabu_331 ?_
              refine t_callp K (or2) cV_X4_142_X4 rfl rfl (by decide) (Nat.le_of_ble_eq_true rfl) (Nat.le_refl _) (Nat.le_refl _) dX4_tabu_332 ?_
              refine j_iadd K dX4_tabu_335 ?_
              refine z_iload K dX4_tabu_336 rfl ?_
              refine t_ist K 24 400 rfl rfl rfl (by omega) (by omega) rfl dX4_tabu_338 ?_
              refine z_aload_n K dX4_tabu_339 rfl rfl rfl ?_
              refine z_iload K dX4_tabu_340 rfl ?_
              refine t_puti K fd_X4_270_0 ⟨_, rfl, Or.inl rfl⟩ (by decide) rfl rfl dX4_tabu_342 ?_
              rw [hW4]
              exact k345 _ ⟨rfl, rfl, rfl, rfl, rfl, rfl, trivial⟩
      have go := tw_tbPick K (sa := sa) (te := te) (W1 := W1) (la := la) (k := k) (le := le) hA hO (by rw [W1f 13 (by decide)]; exact ho) (by rw [W1f 13 (by decide)]; exact ho4) (by rw [W1f 14 (by decide)]; exact h14) (by rw [W1f 15 (by decide)]; exact h15) (by rw [W1f 24 (by decide)]; exact h24) hsw hr hle (by omega) hte k272 20 0 (by omega) W1 (-1) 0 (by rw [W1f 0 (by decide)]; exact h0) (fun _ _ => rfl) (Or.inl ⟨rfl, fun m p v q => by have := (adm_iff hA hO hr).mp q; omega⟩) (by omega) (by omega)
      have go : ∀ env, zsub env [(0, .ref 1000), (1, .int (iI sa)), (2, .int (iI te)), (3, .int (iI le)), (5, .int (iI (k + 1))), (6, .int (iI (-1))), (7, .int (iI 0)), (8, .int (iI 0))] → zW X Q (tH W1) 0 0 128 env [] := go
      clear k272 kn ih
      refine j_iconst K dX4_tabu_119 ?_
      refine z_istore K dX4_tabu_120 (by decide) rfl ?_
      refine j_iconst K dX4_tabu_122 ?_
      refine z_istore K dX4_tabu_123 (by decide) rfl ?_
      refine j_iconst K dX4_tabu_125 ?_
      refine z_istore K dX4_tabu_126 (by decide) rfl ?_
      exact go _ ⟨rfl, rfl, rfl, rfl, rfl, rfl, rfl, rfl, trivial⟩
    clear kn ih
    refine z_iload K dX4_tabu_94 rfl ?_
    refine j_if_eq (tgt := 374) K dX4_tabu_96 rfl (by decide) (fun c_96 => ?_) (fun c_96 => ?_)
    · exact absurd c_96 (by decide)
    · refine z_aload_n K dX4_tabu_99 rfl rfl rfl ?_
      refine t_geti K fd_X4_270_0 (by decide) rfl dX4_tabu_100 ?_
      rw [e10]
      refine z_iload_n K dX4_tabu_103 rfl rfl ?_
      refine j_icmp_ge (tgt := 374) K dX4_tabu_104 rfl (by omega) (by omega) (fun c_104 => ?_) (fun c_104 => ?_)
      · exact absurd c_104 (by omega)
      · refine z_aload_n K dX4_tabu_107 rfl rfl rfl ?_
        refine t_geti K fd_X4_270_0 (by decide) rfl dX4_tabu_108 ?_
        rw [e10]
        refine j_iconst K dX4_tabu_111 ?_
        refine j_iadd K dX4_tabu_112 ?_
        refine z_istore K dX4_tabu_113 (by decide) rfl ?_
        refine z_aload_n K dX4_tabu_115 rfl rfl rfl ?_
        refine t_callv K (hfs) cV_X4_273_X4 rfl rfl (by decide) (Nat.le_of_ble_eq_true rfl) (Nat.le_refl _) (Nat.le_refl _) dX4_tabu_116 ?_
        rintro W' ⟨rd, st, q1, q2, q3, q4⟩
        exact c119 rd st W' q1 q2 q3 q4 _ ⟨rfl, rfl, rfl, rfl, rfl, trivial⟩
end TbW

