/-! ===== the law: the reference's answers, beside all else ===== -/
/-- the same heap: numbers beyond an array's end are not seen -/
def sim (h h' : zH) : Prop := ∀ m, h' m = h m ∨ ∃ (ty n : Nat) (f f' : Nat → Int32), h m = some (.inl (ty, n, .inl f)) ∧ h' m = some (.inl (ty, n, .inl f')) ∧ ∀ i, i < n → f i = f' i
theorem sim.rf {h : zH} : sim h h := fun _ => Or.inl rfl
theorem zS.sim {D : va_G} {dA : Nat → ClassId} {r : zR} {h h' : zH} {H : Heap} (hS : zS D dA r h H) (s : sim h h') : zS D dA r h' H := by
  refine ⟨fun n => ?_, hS.2.1, fun n a e => (hS.2.2.1 n a e).imp id fun q => ⟨q.1, ?_⟩, fun n c a hn ha => ?_⟩
  rotate_left
  · rcases s n with e9 | ⟨ty, k, f, f', e1, e2, -⟩
    · exact e9.trans q.2
    · rw [q.2] at e1; cases e1
  rotate_left
  · rcases s n with e | ⟨ty, k, f, f', e1, e2, -⟩
    · rw [e]; exact hS.1 n
    · rw [e2]
      constructor
      · intro q; cases q
      · intro q; rw [(hS.1 n).mpr q] at e1; cases e1
  · rcases s n with e | ⟨ty, k, f, f', e1, e2, e3⟩
    · rw [e] at hn; exact hS.2.2.2 n c a hn ha
    · rw [e2] at hn
      cases hn
      have z : H[a]? = some (vp_cell (dA ty) (k, .inl f)) := hS.at e1 ha
      refine Or.inl ?_
      show H[a]? = some (vp_cell (dA ty) (k, .inl f'))
      rw [z, vp_cell_i, vp_cell_i]
      have : (fun j : Fin k => Value.int (f j.val)) = fun j : Fin k => Value.int (f' j.val) := funext fun j => by rw [e3 j.val j.isLt]
      unfold arrV
      rw [this]
theorem zMet.alt {y : MethodName} {ws : List Cond} {d : Nat} {as : List Value} {h : zH} {Q Q' : zO → zH → Prop} {mc ms : Nat} (k : zMet y ws d as h Q mc ms) (q : ∀ z h', Q z h' → ∃ h'', sim h' h'' ∧ Q' z h'') : zMet y ws d as h Q' mc ms := by
  intro l D dA r0 A as' hfl has
  refine (k l D dA r0 A as' hfl has).mono (fun _ _ z => z) (fun _ _ _ _ _ z => z) fun _ _ o t _ z => ?_
  rcases z with ⟨v, v', r', h', z1, z2, z3, z4, z5, z6⟩ | ⟨n, p, r', h', E, ce, L, z1, z2, z3, z4, z5, z6⟩
  · obtain ⟨h'', s1, s2⟩ := q _ _ z3
    exact Or.inl ⟨v, v', r', h'', z1, z2, s2, z4, z5.sim s1, z6⟩
  · obtain ⟨h'', s1, s2⟩ := q _ _ z3
    exact Or.inr ⟨n, p, r', h'', E, ce, L, z1, z2, s2, z4, z5.sim s1, z6⟩
section LR0
variable {w w' w2 : tW} {h : zH} {R : Int → tW → Prop} {P : Int → tW → Prop} {v : Int}
theorem tH_sim {g : Nat} (hg : tlen g = 203) (e : ∀ f, f ≠ g → w2 f = w' f) (e2 : ∀ i, i < 203 → w2 g i = w' g i) : sim (tH w') (tH w2) := by
  have t : ∀ f, tfv w2 f = tfv w' f := fun f => by
    by_cases z : f = g
    · subst z; unfold tfv; rw [hg]; rfl
    · unfold tfv; rw [e f z]
  have tF' : tF w2 = tF w' := by unfold tF; simp only [t]
  intro m
  by_cases m0 : m = 1000
  · left; unfold tH; rw [if_pos m0, if_pos m0, tF']
  · by_cases c : 1001 ≤ m ∧ tlen (m - 1001) ≠ 0
    · by_cases z : m - 1001 = g
      · right
        unfold tH
        rw [if_neg m0, if_neg m0, if_pos c, if_pos c, z, hg]
        exact ⟨_, _, _, _, rfl, rfl, fun i hi => by rw [e2 i hi]⟩
      · left; unfold tH; rw [if_neg m0, if_neg m0, if_pos c, if_pos c, e _ z]
    · left; unfold tH; rw [if_neg m0, if_neg m0, if_neg c, if_neg c]
theorem ov_sim (s : sim (tH w') (tH w2)) : sim (ov w' h) (ov w2 h) := fun m => by
  by_cases q : 1000 ≤ m ∧ m < 1038
  · rw [ov_in q.1 q.2, ov_in q.1 q.2]; exact s m
  · left; rw [ov_out (by omega), ov_out (by omega)]
theorem tMi.rfa {y : MethodName} {cc : ByteArray} {nL : Nat} {rt : FieldType} {d : Nat} {as : List Value} (hM : tMi y cc nL rt d as w P) (has0 : znr as = true) (h : zH) (hP : ∀ v w', P v w' → ∃ w2, sim (tH w') (tH w2) ∧ R v w2 ∧ RJ w2) : zMet y (ws_ y cc nL (some rt)) d (.ref 1000 :: as) (ov w h) (rfQ h R) 0 0 :=
  (hM.bs has0 h).alt fun z h' ⟨v, w', e1, e2, hp⟩ => by
    obtain ⟨w2, s, r, j⟩ := hP v w' hp
    exact ⟨ov w2 h, by rw [e2]; exact ov_sim s, v, w2, e1, rfl, r, j⟩
def rfQv (h : zH) (R : tW → Prop) : zO → zH → Prop := fun z h' => ∃ w', z = .inl none ∧ h' = ov w' h ∧ R w' ∧ RJ w'
theorem tMv.rfa {y : MethodName} {cc : ByteArray} {nL : Nat} {d : Nat} {as : List Value} {P R : tW → Prop} (hM : tMv y cc nL d as w P) (has0 : znr as = true) (h : zH) (hP : ∀ w', P w' → ∃ w2, sim (tH w') (tH w2) ∧ R w2 ∧ RJ w2) : zMet y (ws_ y cc nL none) d (.ref 1000 :: as) (ov w h) (rfQv h R) 0 0 :=
  (hM.bs has0 h).alt fun z h' ⟨w', e1, e2, hp⟩ => by
    obtain ⟨w2, s, r, j⟩ := hP w' hp
    exact ⟨ov w2 h, by rw [e2]; exact ov_sim s, w2, e1, rfl, r, j⟩
theorem RJ.f7 (k : RJ w) (e : ∀ f, jf f → f ≠ 7 → w' f = w f) (e7 : 0 ≤ w' 7 0 ∧ w' 7 0 ≤ 4) : RJ w' := by
  obtain ⟨k1, k2, k3, k4, k5, k6, k7, k8, k9, k10⟩ := k
  exact ⟨by rw [e 13 (by unfold jf; omega) (by omega)]; exact k1, by rw [e 14 (by unfold jf; omega) (by omega)]; exact k2, by rw [e 15 (by unfold jf; omega) (by omega)]; exact k3, by rw [e 22 (by unfold jf; omega) (by omega)]; exact k4, by rw [e 5 (by unfold jf; omega) (by omega)]; exact k5, by rw [e 4 (by unfold jf; omega) (by omega)]; exact k6, by rw [e 34 (by unfold jf; omega) (by omega)]; exact k7, e7, by rw [e 9 (by unfold jf; omega) (by omega)]; exact k9, by rw [e 2 (by unfold jf; omega) (by omega)]; exact k10⟩
theorem RJ.chg {s1 : Nat → Int} (k : RJ w) (c : chg w s1 v w') : RJ w' := by
  obtain ⟨rd, st, -, -, fr, c⟩ := c
  refine k.f7 (fun f hf h7 => fr f (by have := hf.n; simp; omega)) ?_
  rcases c with ⟨-, -, -, -, -, c⟩ | ⟨-, -, -, x, -, c, -⟩
  · rw [c]; exact k.2.2.2.2.2.2.2.1
  · rw [c]; omega
theorem chE_of {s1 : Nat → Int} {t : Int} (k : RJ w) (p : pubQ w t (chg w s1) v w') : ∃ w2, sim (tH w') (tH w2) ∧ pubQ w t (chE w s1) v w2 ∧ RJ w2 := by
  by_cases z : t = 0
  · have c := p.1 z
    by_cases e3 : w' 3 0 = 3
    · obtain ⟨rd, st, c1, c2, c3, c4⟩ := id c
      have c5 := c4.resolve_left (fun y => by rw [y.2.2.2.1] at e3; omega)
      have c6 : chg w s1 v (wF w' 0 (w 0)) := ⟨rd, st, c1, c2, fun f hf => (wF_n (fun y => hf (by rw [y]; decide))).trans (c3 f hf), Or.inr ⟨c5.1, fun i hi => by rw [wF_s], by rw [wF_n (by decide)]; exact c5.2.2.1, by rw [wF_n (by decide), wF_n (by decide)]; exact c5.2.2.2⟩⟩
      exact ⟨wF w' 0 (w 0), tH_sim (g := 0) rfl (fun f hf => wF_n hf) (fun i hi => by rw [wF_s]; exact (c5.2.1 i hi).symm), ⟨fun _ => ⟨c6, fun _ => wF_s⟩, fun q => absurd z q⟩, k.chg c6⟩
    · exact ⟨w', sim.rf, ⟨fun _ => ⟨c, fun q => absurd q e3⟩, fun q => absurd z q⟩, k.chg c⟩
  · exact ⟨w', sim.rf, ⟨fun q => absurd q z, p.2⟩, by rw [p.2 z]; exact k.s3⟩
theorem rj_slk {rd st : Nat → Int} {q hu : Int} (k : RJ w) (hh : 0 ≤ hu ∧ hu ≤ 3000) : RJ (tset (wt (tset (tset (tset w 3 0 0) 14 0 q) 15 0 hu) rd st) 14 0 (-1)) := by
  obtain ⟨k1, k2, k3, k4, k5, k6, k7, k8, k9, k10⟩ := k
  have e : ∀ f, f ≠ 3 → f ≠ 11 → f ≠ 12 → f ≠ 14 → f ≠ 15 → tset (wt (tset (tset (tset w 3 0 0) 14 0 q) 15 0 hu) rd st) 14 0 (-1) f = w f := fun f f3 f11 f12 f14 f15 => by rw [tsG f14, wt_o f11 f12, tsG f15, tsG f14, tsG f3]
  exact ⟨by rw [e 13 (by omega) (by omega) (by omega) (by omega) (by omega)]; exact k1, tset_s, by rw [tset_f (by decide), wt_o (by decide) (by decide), tset_s]; exact hh, by rw [e 22 (by omega) (by omega) (by omega) (by omega) (by omega)]; exact k4, by rw [e 5 (by omega) (by omega) (by omega) (by omega) (by omega)]; exact k5, by rw [e 4 (by omega) (by omega) (by omega) (by omega) (by omega)]; exact k6, by rw [e 34 (by omega) (by omega) (by omega) (by omega) (by omega)]; exact k7, by rw [e 7 (by omega) (by omega) (by omega) (by omega) (by omega)]; exact k8, by rw [e 9 (by omega) (by omega) (by omega) (by omega) (by omega)]; exact k9, by rw [e 2 (by omega) (by omega) (by omega) (by omega) (by omega)]; exact k10⟩
theorem RJ.sh (k : RJ w) (c : shQ w v w') : RJ w' := by
  obtain ⟨s, o, cl, rd, st, -, -, c3, -, -, -, -, c8, -, c10, -, -, fr⟩ := c
  obtain ⟨k1, k2, k3, k4, k5, k6, k7, k8, k9, k10⟩ := k
  exact ⟨by rw [c8]; exact c3, by rw [fr 14 (by decide)]; exact k2, by rw [fr 15 (by decide)]; exact k3, by rw [fr 22 (by decide)]; exact k4, by rw [fr 5 (by decide)]; exact k5, by rw [fr 4 (by decide)]; exact k6, by rw [fr 34 (by decide)]; exact k7, by rw [fr 7 (by decide)]; exact k8, Or.inr c10, by rw [fr 2 (by decide)]; exact k10⟩
theorem RJ.ap {c : Int} (k : RJ w) (hc : 0 ≤ c ∧ c < 65536) (p : apQ w c w') : RJ w' := by
  rcases p with ⟨-, rfl⟩ | ⟨z, rfl⟩
  · exact k.s3
  obtain ⟨k1, k2, k3, k4, k5, k6, k7, k8, k9, k10⟩ := k
  have e : ∀ f, f ≠ 3 → f ≠ 4 → f ≠ 5 → tset (tset (tset w 3 0 0) 4 (w 5 0).toNat c) 5 0 (w 5 0 + 1) f = w f := fun f f3 f4 f5 => by rw [tsG f5, tsG f4, tsG f3]
  refine ⟨by rw [e 13 (by omega) (by omega) (by omega)]; exact k1, by rw [e 14 (by omega) (by omega) (by omega)]; exact k2, by rw [e 15 (by omega) (by omega) (by omega)]; exact k3, by rw [e 22 (by omega) (by omega) (by omega)]; exact k4, by rw [tset_s]; omega, fun i hi => ?_, by rw [e 34 (by omega) (by omega) (by omega)]; exact k7, by rw [e 7 (by omega) (by omega) (by omega)]; exact k8, by rw [e 9 (by omega) (by omega) (by omega)]; exact k9, by rw [e 2 (by omega) (by omega) (by omega)]; exact k10⟩
  rw [tset_f (by decide), tset_row, tsG (by decide)]
  by_cases q : i = (w 5 0).toNat
  · rw [q, sup_s]; omega
  · rw [sup_n q]; exact k6 i hi
theorem cpy_0 {f g : Nat → Int} {i : Nat} (hi : i < 203) : va_cpy f g 0 0 203 i = f i := by
  unfold va_cpy
  rw [if_pos ⟨by omega, by omega⟩, show 0 + (i - 0) = i by omega]
theorem rdE_of (k : RJ w) (p : readQ w v w') : ∃ w2, sim (tH w') (tH w2) ∧ rdE w v w2 ∧ RJ w2 := by
  obtain ⟨f, W, jobs, S, hs, hc⟩ := id p
  obtain ⟨k1, k2, k3, k4, k5, k6, k7, k8, k9, k10⟩ := id k
  have eF : ∀ g, g ≠ 5 → g ≠ 31 → rdF W g = W g := fun g g1 g2 => by
    unfold rdF
    rw [tset_g g1]
    split
    · exact tset_g g2
    · rfl
  have eW : ∀ g, g ∉ [0, 30, 31, 32, 33, 34, 35] → W g = rd0 w g := fun g hg => S.2.2.2.2 g hg
  have e0 : ∀ g, g ≠ 36 → g ≠ 30 → g ≠ 31 → g ≠ 33 → rd0 w g = w g := fun g g1 g2 g3 g4 => by
    unfold rd0
    rw [tset_g g4, tset_g g3, tset_g g2, wF_n g1]
  have eG : ∀ g, g = 2 ∨ g = 4 ∨ g = 7 ∨ g = 9 ∨ g = 13 ∨ g = 14 ∨ g = 15 ∨ g = 22 → rdF W g = w g := fun g hg => by
    rw [eF g (by omega) (by omega), eW g (by simp; omega), e0 g (by omega) (by omega) (by omega) (by omega)]
  have e34 : -1 ≤ rdF W 34 0 ∧ rdF W 34 0 ≤ 1000 := by rw [eF 34 (by decide) (by decide)]; exact S.1.2.2.2.2
  have e5 : rdF W 5 0 = 0 := tset_s
  have mk : ∀ U : tW, (∀ g, g ≠ 0 → g ≠ 3 → g ≠ 6 → g ≠ 7 → U g = rdF W g) → (0 ≤ U 7 0 ∧ U 7 0 ≤ 4) → RJ U := fun U hU h7 =>
    ⟨by rw [hU 13 (by decide) (by decide) (by decide) (by decide), eG 13 (by omega)]; exact k1, by rw [hU 14 (by decide) (by decide) (by decide) (by decide), eG 14 (by omega)]; exact k2, by rw [hU 15 (by decide) (by decide) (by decide) (by decide), eG 15 (by omega)]; exact k3, by rw [hU 22 (by decide) (by decide) (by decide) (by decide), eG 22 (by omega)]; exact k4, by rw [hU 5 (by decide) (by decide) (by decide) (by decide), e5]; omega, by rw [hU 4 (by decide) (by decide) (by decide) (by decide), eG 4 (by omega)]; exact k6, by rw [hU 34 (by decide) (by decide) (by decide) (by decide)]; exact e34, h7, by rw [hU 9 (by decide) (by decide) (by decide) (by decide), eG 9 (by omega)]; exact k9, by rw [hU 2 (by decide) (by decide) (by decide) (by decide), eG 2 (by omega)]; exact k10⟩
  have fl : ∀ (kk a b c d e : Int), kk ≠ 0 → (0 ≤ a ∧ a ≤ 4) → w' = wFail (rdB (tset (rdF W) 3 0 kk)) a b c d e → ∃ w2, sim (tH w') (tH w2) ∧ rdE w v w2 ∧ RJ w2 := fun kk a b c d e hk ha ew => by
    have row : ∀ i, i < 203 → w' 0 i = w 0 i := fun i hi => by
      rw [ew, wFail_f (by decide) (by decide)]
      unfold rdB
      rw [wF_s, cpy_0 hi, tset_g (by decide), eF 36 (by decide) (by decide), eW 36 (by decide)]
      unfold rd0
      rw [tset_g (by decide), tset_g (by decide), tset_g (by decide), wF_s, cpy_0 hi]
    have ot : ∀ g, g ≠ 0 → g ≠ 3 → g ≠ 6 → g ≠ 7 → w' g = rdF W g := fun g g0 g3 g6 g7 => by
      rw [ew, wFail_f g6 g7]
      unfold rdB
      rw [wF_n g0, tset_g g3]
    have w3 : w' 3 0 = kk := by
      rw [ew, wFail_f (by decide) (by decide)]
      unfold rdB
      rw [wF_n (by decide), tset_s]
    have w7 : w' 7 0 = a := by rw [ew]; exact wFail_67.1
    refine ⟨wF w' 0 (w 0), tH_sim (g := 0) rfl (fun f hf => wF_n hf) (fun i hi => by rw [wF_s]; exact (row i hi).symm), ⟨w', p, fun f hf => wF_n hf, fun q => absurd (w3.symm.trans q) hk, fun _ => wF_s⟩, mk _ (fun g g0 g3 g6 g7 => (wF_n g0).trans (ot g g0 g3 g6 g7)) (by rw [wF_n (by decide), w7]; exact ha)⟩
  rcases hc with ⟨c1, c2, c3, e⟩ | ⟨c1, c3, e⟩ | ⟨c1, c2, c3, e⟩
  · refine ⟨w', sim.rf, ⟨w', p, fun _ _ => rfl, fun _ => rfl, fun q => absurd (by rw [e]; exact tset_s) q⟩, mk w' (fun g g0 g3 g6 g7 => by rw [e]; exact tset_g g3) ?_⟩
    rw [e, tset_f (by decide), eG 7 (by omega)]
    exact k8
  · exact fl 1 2 2 _ 0 0 (by decide) (by omega) e
  · exact fl 2 (if rdF W 34 0 = 3 then 4 else 3) 3 _ _ _ (by decide) (by split <;> omega) e
theorem rf_save (k : RJ w) (h : zH) : zMet yX4_save (ws_ yX4_save cX4_save 1 none) 2 [.ref 1000] (ov w h) (rfQv h (savQ w)) 0 0 :=
  tMv.rfa (as := []) (w := w) tw_save rfl h (fun w' e => by
    subst e
    refine ⟨tset (wF (tset w 3 0 0) 1 (w 0)) 2 0 1, tH_sim (g := 1) rfl (fun f hf => ?_) (fun i hi => ?_), rfl, ?_⟩
    · by_cases f2 : f = 2
      · subst f2; rw [tset_row, tset_row, wF_n (by decide), wF_n (by decide)]
      · rw [tsG f2, tsG f2, wF_n hf, wF_n hf]
    · rw [tsG (by decide), tsG (by decide), wF_s, wF_s, cpy_0 hi]
    · obtain ⟨k1, k2, k3, k4, k5, k6, k7, k8, k9, k10⟩ := k
      have e : ∀ f, f ≠ 1 → f ≠ 2 → f ≠ 3 → tset (wF (tset w 3 0 0) 1 (w 0)) 2 0 1 f = w f := fun f f1 f2 f3 => by rw [tsG f2, wF_n f1, tsG f3]
      exact ⟨by rw [e 13 (by omega) (by omega) (by omega)]; exact k1, by rw [e 14 (by omega) (by omega) (by omega)]; exact k2, by rw [e 15 (by omega) (by omega) (by omega)]; exact k3, by rw [e 22 (by omega) (by omega) (by omega)]; exact k4, by rw [e 5 (by omega) (by omega) (by omega)]; exact k5, by rw [e 4 (by omega) (by omega) (by omega)]; exact k6, by rw [e 34 (by omega) (by omega) (by omega)]; exact k7, by rw [e 7 (by omega) (by omega) (by omega)]; exact k8, by rw [e 9 (by omega) (by omega) (by omega)]; exact k9, Or.inr tset_s⟩)
theorem rf_restore (k : RJ w) (h : zH) : zMet yX4_restore (ws_ yX4_restore cX4_restore 1 none) 2 [.ref 1000] (ov w h) (rfQv h (resQ w)) 0 0 :=
  tMv.rfa (as := []) (w := w) (tw_restore k.2.2.2.2.2.2.2.2.2) rfl h (fun w' e => by
    rcases e with ⟨z, rfl⟩ | ⟨z, rfl⟩
    · exact ⟨_, sim.rf, Or.inl ⟨z, rfl⟩, k.s3⟩
    · refine ⟨wF (tset w 3 0 0) 0 (w 1), tH_sim (g := 0) rfl (fun f hf => by rw [wF_n hf, wF_n hf]) (fun i hi => by rw [wF_s, wF_s, cpy_0 hi]), Or.inr ⟨z, rfl⟩, k.fr fun f hf => (wF_n hf.n.1).trans (tsG hf.n.2.2.1)⟩)
theorem rf_append {c : Int} (k : RJ w) (hc : 0 ≤ c ∧ c < 65536) (hn : vp_nar .char (iI c) = iI c) (h : zH) : zMet yX4_append (ws_ yX4_append cX4_append 2 none) 1 [.ref 1000, .int (iI c)] (ov w h) (rfQv h (apQ w c)) 0 0 :=
  tMv.rfa (as := [.int (iI c)]) (w := w) (tw_append hn k.2.2.2.2.1) rfl h (fun w' e => ⟨w', sim.rf, e, k.ap hc e⟩)
def rfQd (h : zH) (R : UInt64 → tW → Prop) : zO → zH → Prop := fun z h' => ∃ v w', z = .inl (some (.double v)) ∧ h' = ov w' h ∧ R v w' ∧ RJ w'
theorem rf_utilization {m : Int} (k : RJ w) (hs : SIr (w 0)) (hm : i32 m) (h : zH) : zMet yX4_utilization (ws_ yX4_utilization cX4_utilization 4 (some .double)) 7 [.ref 1000, .int (iI m)] (ov w h) (rfQd h (utQ w m)) 0 0 :=
  (zMet.besides (tw_utilization hm (k.TI hs) (k.hac hs)) rfl (fun z h' ⟨x, w', e1, e2, _⟩ => ⟨_, w', e1, e2⟩) h).weaken fun z h' ⟨w', e, x, w2, e1, e2, hp⟩ => ⟨x, w2, e1, by rw [e]; exact ov_cg e2, hp, by
    by_cases q : tcMach m = 0
    · obtain ⟨rd, st, ew, -⟩ := hp.1 q
      rw [ew]; exact k.wt
    · rw [hp.2 q]; exact k.s3⟩
theorem tc_add {j m u f : Int} (hs : SIr (w 0)) (z : tcAddOp w j m u f = 0) : w 0 1 < 20 ∧ 0 ≤ w 0 (179 + m).toNat ∧ w 0 (179 + m).toNat < 5 := by
  unfold tcAddOp at z
  split at z
  · omega
  · rename_i c1
    split at z
    · omega
    · split at z
      · omega
      · rename_i c3
        have c1 := Decidable.not_not.mp c1
        have hl := (hs.1.1.2 j c1.1.1 (by omega)).2.2.2
        unfold sLen at hl
        have l4 : w 0 (17 + j).toNat ≠ 4 := fun e => c3 (Or.inl e)
        have hN : noM (w 0) j m := fun i i0 i1 => by
          have hh : ¬ hasM (w 0) j m (w 0 (17 + j).toNat).toNat := fun e => c3 (Or.inr (by rw [bP_t e]; decide))
          have := hasM_n _ hh i.toNat (by unfold sLen at i1; omega)
          rw [show ((i.toNat : Nat) : Int) = i by omega] at this
          exact this
        have r1 := room_op hs.1 (j := j) ⟨c1.1.1, by omega⟩ (by unfold sLen; omega)
        have r2 := room_on hs.1 hs.2.1 (j := j) (m := m) ⟨c1.1.1, by omega⟩ c1.2 hN
        have r3 := (hs.2.1 m c1.2.1 c1.2.2).1
        unfold sOn at r2 r3
        exact ⟨r1, r3.1, r2⟩
theorem rf_addOperation {j m u f : Int} (k : RJ w) (hs : SIr (w 0)) (hj : i32 j) (hm : i32 m) (hu : i32 u) (hf : i32 f) (h : zH) : zMet yX4_addOperation (ws_ yX4_addOperation cX4_addOperation 5 (some .int)) 4 [.ref 1000, .int (iI j), .int (iI m), .int (iI u), .int (iI f)] (ov w h) (rfQ h (fun v w' => pub w (tcAddOp w j m u f) (w 0 1) (wOp (tset w 3 0 0) j m u f) w' v)) 0 0 :=
  tMi.rf (as := [.int (iI j), .int (iI m), .int (iI u), .int (iI f)]) (tw_addOperation hj hm hu hf hs.1.1.1 hs.1.2.1.1 (fun q q0 q1 => (hs.1.1.2 q q0 q1).2.2.2) (fun q q0 q1 i hi => by
    have h20 := hs.1.2.1.1
    have a := (hs.1.2.2.1 q i q0 q1 (by omega) hi).1
    have b := (hs.1.2.1.2 _ a.1 a.2).2.1
    unfold sSeq at a b
    unfold sMc at b
    exact ⟨⟨a.1, by omega⟩, b⟩) (tc_add hs)) rfl h (fun v w' p => ⟨p, k.pub (fun f hf => wOp_f hf) p⟩)
end LR0
