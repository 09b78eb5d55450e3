/-! ===== relations with one result: tabu search, shifting bottlenecks (plain) ===== -/
section UQ1
variable {s o rd st : Nat → Int}
theorem pthO_mem (hA : WfA s) (hO : WfO s) {hd hu : Int} (hT : Tp s o hd hu rd st) (h0 : ∀ i : Int, 0 ≤ i → i < s 1 → 0 ≤ st i.toNat) : ∀ (n : Nat) (k : Int), (k = -1 ∨ (0 ≤ k ∧ k < s 1)) → ∀ x, x ∈ pthO s o rd st n k → 0 ≤ x ∧ x < s 1
  | 0, _, _, x, hx => by cases hx
  | n + 1, k, hk, x, hx => by
    unfold pthO at hx
    by_cases c : k = -1
    · rw [if_pos c] at hx; cases hx
    · rw [if_neg c] at hx
      have hk2 := hk.resolve_left c
      rcases List.mem_cons.mp hx with rfl | hx
      · exact hk2
      · exact pthO_mem hA hO hT h0 n _ ((nxtO_ok hA hO hT hk2.1 hk2.2 (h0 k hk2.1 hk2.2)).imp id (fun q => q.1)) x hx
theorem pthF_r (hA : WfA s) (hO : WfO s) {hd hu : Int} (hT : Tp s o hd hu rd st) (h0 : ∀ i : Int, 0 ≤ i → i < s 1 → 0 ≤ st i.toNat) : ∀ i : Nat, i < (pthS s o rd st).length → 0 ≤ pthF s o rd st i ∧ pthF s o rd st i < s 1 := fun i hi => by
  have h20 := hA.2.1.1
  unfold pthF
  rw [List.getElem?_eq_getElem (by omega)]
  exact pthO_mem hA hO hT h0 21 _ (by have := lstO_r s st (s 1).toNat; omega) _ (List.getElem_mem ..)
end UQ1
theorem tbR.uniq {ten most : Int} : ∀ (n n' : Nat) (s : Nat → Int) (la : Int → Int → Int) (le : Int) (bs : Nat → Int) (k : Int) (b1 : Nat → Int) (k1 : Int) (b2 : Nat → Int) (k2 : Int), WfA s → WfO s → ACy s (oB 0) → tbR ten most n s la le bs k b1 k1 → tbR ten most n' s la le bs k b2 k2 → b1 = b2 ∧ k1 = k2
  | 0, _, _, _, _, _, _, _, _, _, _, _, _, _, h, _ => h.elim
  | _ + 1, 0, _, _, _, _, _, _, _, _, _, _, _, _, _, h => h.elim
  | n + 1, n' + 1, s, la, le, bs, k, b1, k1, b2, k2, hA, hO, hC, h, g => by
    rcases h with ⟨h1, h2, h3⟩ | ⟨h1, rd, st, hT, hQ, h2⟩ <;> rcases g with ⟨g1, g2, g3⟩ | ⟨g1, rd', st', gT, gQ, g2⟩
    · exact ⟨h2.trans g2.symm, h3.trans g3.symm⟩
    · omega
    · omega
    · have z0 := hC.u0 hA hO hQ
      have es := hT.same hA hO gT gQ z0
      have e := pthS_cg (o := oB 0) (o' := oB 0) hA hO (fun _ _ => rfl) es
      have eF : pthF s (oB 0) rd st = pthF s (oB 0) rd' st' := funext (pthF_cg e)
      have ea : ∀ fb le n m p v, admT s (oB 0) rd' st' fb le n m p v ↔ admT s (oB 0) rd st fb le n m p v := fun fb le n m p v => by unfold admT; rw [eF]
      have ep : ∀ fb le n m p v, pckT s (oB 0) rd' st' fb le n m p v ↔ pckT s (oB 0) rd st fb le n m p v := fun fb le n m p v => by
        unfold pckT
        rw [ea]
        refine and_congr Iff.rfl ⟨fun q m' p' v' r => q m' p' v' ((ea ..).mpr r), fun q m' p' v' r => q m' p' v' ((ea ..).mp r)⟩
      rw [← e] at g2
      rcases h2 with ⟨h2, h3, h4⟩ | ⟨m, p, v, h2, h3⟩ <;> rcases g2 with ⟨g2, g3, g4⟩ | ⟨m', p', v', g2, g3⟩
      · exact ⟨h3.trans g3.symm, h4.trans g4.symm⟩
      · exact absurd ((ea ..).mp g2.1) (h2 m' p' v')
      · exact absurd ((ea ..).mpr h2.1) (g2 m p v)
      · obtain ⟨rfl, rfl, rfl⟩ := h2.uniq ((ep ..).mp g2)
        have hr := pthF_r hA hO hT (fun i i0 i1 => cntU_0.mp z0 i.toNat (by omega))
        obtain ⟨q1, q2, -, q4, q5, -⟩ := (adm_iff hA hO hr).mp h2.1
        have hA' := sXc_A q1.1 q2.1 hA
        have hO' := sXc_O hA hO q1 q2
        exact tbR.uniq n n' _ _ _ _ _ _ _ _ _ hA' hO' (q4.ac hA' hO' q5) h3 g3
theorem sup_cg {o o' : Nat → Int} {a : Nat} {v : Int} (e : ∀ m : Nat, m < 4 → o m = o' m) (m : Nat) (hm : m < 4) : sup o a v m = sup o' a v m := by
  by_cases z : m = a
  · rw [z, sup_s, sup_s]
  · rw [sup_n z, sup_n z]; exact e m hm
section UQ2
variable {s o o' : Nat → Int} {m : Nat} {bm bm' : Int} {s1 s2 : Nat → Int}
theorem optR.same (hA : WfA s) (hO : WfO s) (hm : m ≤ 3) (e : ∀ m : Nat, m < 4 → o m = o' m) (h : optR s o m bm s1) (g : optR s o' m bm' s2) : bm = bm' := by
  obtain ⟨bo, h1, -⟩ := h
  obtain ⟨bo', g1, -⟩ := g
  have on := (hO m (by omega) (by omega)).1
  exact ((h1.ob hA hO hm (by omega) e).uniq hA hO hm (by omega) g1).1
theorem optR.ok (hA : WfA s) (hO : WfO s) (hm : m ≤ 3) (hc : ∃ c, isPm s m (sOn s m).toNat c ∧ ACy (sPut s m (sOn s m).toNat c) o) (h : optR s o m bm s1) : WfA s1 ∧ WfO s1 ∧ ACy s1 o := by
  obtain ⟨bo, h1, rfl⟩ := h
  have on := (hO m (by omega) (by omega)).1
  obtain ⟨c, c1, c2⟩ := hc
  obtain ⟨a1, a2, a3⟩ := h1.own hA hO hm (by omega) c1 c2
  obtain ⟨w1, w2⟩ := sPut_W hA hO hm (by omega) a2
  exact ⟨w1, w2, a3.ac w1 w2 a1⟩
theorem optR.uniq (hA : WfA s) (hO : WfO s) (hm : m ≤ 3) (e : ∀ m : Nat, m < 4 → o m = o' m) (hc : ∃ c, isPm s m (sOn s m).toNat c ∧ ACy (sPut s m (sOn s m).toNat c) o) (h : optR s o m bm s1) (g : optR s o' m bm' s2) : s1 = s2 := by
  obtain ⟨bo, h1, rfl⟩ := h
  obtain ⟨bo', g1, rfl⟩ := g
  have on := (hO m (by omega) (by omega)).1
  obtain ⟨c, c1, c2⟩ := hc
  have a1 := (h1.own hA hO hm (by omega) c1 c2).1
  have u := (g1.ob hA hO hm (by omega) (fun m hm => (e m hm).symm)).uniq hA hO hm (by omega) h1
  have := (h1.uniq hA hO hm (by omega) (g1.ob hA hO hm (by omega) (fun m hm => (e m hm).symm))).2 a1
  exact sPut_e this
theorem own_c (hO : WfO s) (hm : m ≤ 3) (h : ACy s o) : ∃ c, isPm s m (sOn s m).toNat c ∧ ACy (sPut s m (sOn s m).toNat c) o := by
  have on := (hO m (by omega) (by omega)).1
  exact ⟨_, isPm.own hO hm (by omega), by rw [sPut_i]; exact h⟩
theorem wrR.uniq (hA : WfA s) (hO : WfO s) (e : ∀ m : Nat, m < 4 → o m = o' m) : ∀ (n : Nat) (a g a' g' : Int), n ≤ 4 → wrR s o n a g → wrR s o' n a' g' → a = a' ∧ g = g' ∧ a < n
  | 0, a, g, a', g', _, h, k => by obtain ⟨rfl, rfl⟩ := h; obtain ⟨rfl, rfl⟩ := k; exact ⟨rfl, rfl, by decide⟩
  | n + 1, a, g, a', g', hn, ⟨a0, g0, h1, h2⟩, ⟨a1, g1, k1, k2⟩ => by
    obtain ⟨rfl, rfl, hlt⟩ := wrR.uniq hA hO e n a0 g0 a1 g1 (by omega) h1 k1
    have en := e n (by omega)
    rcases h2 with ⟨x1, x2, x3⟩ | ⟨x1, bm, s1, x2, x3, x4⟩ <;> rcases k2 with ⟨y1, y2, y3⟩ | ⟨y1, bm', s2, y2, y3, y4⟩
    · exact ⟨x2.trans y2.symm, x3.trans y3.symm, by omega⟩
    · rw [en] at x1; exact absurd x1 y1
    · rw [en] at x1; exact absurd y1 x1
    · obtain rfl := optR.same hA hO (by omega) (sup_cg e) x2 y2
      refine ⟨x3.trans y3.symm, x4.trans y4.symm, ?_⟩
      rw [x3]
      split <;> omega
theorem reR.uniq (e : ∀ m : Nat, m < 4 → o m = o' m) {cl cl' : Nat → Int} : ∀ (n : Nat) (s s1 s2 : Nat → Int), (∀ k, k < n → cl k = cl' k ∧ cl k ≤ 3) → WfA s → WfO s → ACy s o → reR o cl n s s1 → reR o' cl' n s s2 → s1 = s2 ∧ WfA s1 ∧ WfO s1 ∧ ACy s1 o
  | 0, s, s1, s2, _, hA, hO, hC, h, k => by
    have h1 : s1 = s := h
    have k1 : s2 = s := k
    rw [h1, k1]
    exact ⟨rfl, hA, hO, hC⟩
  | n + 1, s, s1, s2, hc, hA, hO, hC, ⟨t, bm, h1, h2⟩, ⟨t', bm', k1, k2⟩ => by
    obtain ⟨rfl, a1, a2, a3⟩ := reR.uniq e n s t t' (fun k hk => hc k (by omega)) hA hO hC h1 k1
    have hn := hc n (by omega)
    rw [← hn.1] at k2
    have oc := own_c (m := (cl n).toNat) a2 (by omega) a3
    exact ⟨optR.uniq a1 a2 (by omega) e oc h2 k2, optR.ok a1 a2 (by omega) oc h2⟩
theorem shR.uniq {s0 : Nat → Int} (hA : WfA s0) (hO : WfO s0) {o0 : Nat → Int} (hC : ACy s0 o0) : ∀ (n : Nat) (s o cl s' o' cl' : Nat → Int), n ≤ 4 → shR s0 n s o cl → shR s0 n s' o' cl' → s = s' ∧ (∀ m : Nat, m < 4 → o m = o' m) ∧ (∀ k, k < n → cl k = cl' k ∧ cl k ≤ 3) ∧ WfA s ∧ WfO s ∧ ACy s o
  | 0, s, o, cl, s', o', cl', _, ⟨h1, h2⟩, ⟨k1, k2⟩ => by
    subst h1
    refine ⟨k1.symm, fun m hm => (h2 m hm).trans (k2 m hm).symm, fun k hk => absurd hk (by omega), hA, hO, ?_⟩
    obtain ⟨r, hr⟩ := hC
    refine ⟨r, fun k k0 k1 => ?_⟩
    obtain ⟨a1, a2, a3⟩ := hr k k0 k1
    have hm := (hA.2.1.2 k k0 k1).2.1
    refine ⟨a1, a2, fun q => absurd ?_ q⟩
    unfold sAh
    rw [if_pos (by rw [h2 _ (by omega)]; decide)]
  | n + 1, s, o, cl, s', o', cl', hn, ⟨s1, o1, cl1, a, g, bm, s2, h1, h2, h3, h4, h5, h6⟩, ⟨s1', o1', cl1', a', g', bm', s2', k1, k2, k3, k4, k5, k6⟩ => by
    obtain ⟨rfl, e, ec, hA1, hO1, hC1⟩ := shR.uniq hA hO hC n s1 o1 cl1 s1' o1' cl1' (by omega) h1 k1
    obtain ⟨rfl, rfl, ha⟩ := wrR.uniq hA1 hO1 e 4 a g a' g' (by omega) h2 k2
    have eo : ∀ m : Nat, m < 4 → o m = o' m := fun m hm => by rw [h3, k3]; exact sup_cg e m hm
    have on := (hO1 a.toNat (by omega) (by omega)).1
    have fe := feas hA1 hO1 (m := a.toNat) (n := (sOn s1 a.toNat).toNat) (by omega) (by omega) hC1
    rw [← h3] at fe
    obtain rfl := optR.uniq hA1 hO1 (by omega) eo fe h4 k4
    obtain ⟨x1, x2, x3⟩ := optR.ok hA1 hO1 (by omega) fe h4
    obtain ⟨rfl, y1, y2, y3⟩ := reR.uniq eo n s2 s s' ec x1 x2 x3 h5 k5
    refine ⟨rfl, eo, fun k hk => ?_, y1, y2, y3⟩
    rw [h6, k6]
    unfold sup
    split
    · exact ⟨rfl, by omega⟩
    · exact ec k (by omega)
end UQ2
