/-! ===== the component: the bound of a machine ===== -/
abbrev prq (s : Nat → Int) (k l : Int) : Prop := tlO s l < tlO s k ∨ (tlO s l = tlO s k ∧ k ≤ l)
/-- the chosen one among the first p of the order -/
def bIn (s lf : Nat → Int) (m t : Int) (p : Nat) (c : Int) : Prop := (c = -1 ∧ ∀ q : Nat, q < p → ¬ bCd s lf m t (sOr s m q)) ∨ (0 ≤ c ∧ c < p ∧ bCd s lf m t (sOr s m c) ∧ ∀ q : Nat, q < p → bCd s lf m t (sOr s m q) → prq s (sOr s m c) (sOr s m q))
theorem bIn.no {s lf : Nat → Int} {m t c : Int} {p : Nat} (h : bIn s lf m t p c) (hn : ¬ bCd s lf m t (sOr s m p)) : bIn s lf m t (p + 1) c := by
  have e : ∀ q : Nat, q < p + 1 → q < p ∨ q = p := fun q hq => by omega
  rcases h with ⟨h1, h2⟩ | ⟨h1, h2, h3, h4⟩
  · exact Or.inl ⟨h1, fun q hq => (e q hq).elim (h2 q) (fun z => z ▸ hn)⟩
  · exact Or.inr ⟨h1, by omega, h3, fun q hq hb => (e q hq).elim (fun z => h4 q z hb) (fun z => absurd hb (z ▸ hn))⟩
theorem bIn.keep {s lf : Nat → Int} {m t c : Int} {p : Nat} (h : bIn s lf m t p c) (hc : c ≠ -1) (hn : ¬ prc s (sOr s m p) (sOr s m c)) : bIn s lf m t (p + 1) c := by
  have e : ∀ q : Nat, q < p + 1 → q < p ∨ q = p := fun q hq => by omega
  rcases h with ⟨h1, h2⟩ | ⟨h1, h2, h3, h4⟩
  · exact absurd h1 hc
  · exact Or.inr ⟨h1, by omega, h3, fun q hq hb => (e q hq).elim (fun z => h4 q z hb) (fun z => by subst z; unfold prc at hn; unfold prq; omega)⟩
theorem bIn.new {s lf : Nat → Int} {m t c : Int} {p : Nat} (h : bIn s lf m t p c) (hp : bCd s lf m t (sOr s m p)) (hn : c = -1 ∨ prc s (sOr s m p) (sOr s m c)) : bIn s lf m t (p + 1) p := by
  have e : ∀ q : Nat, q < p + 1 → q < p ∨ q = p := fun q hq => by omega
  refine Or.inr ⟨by omega, by omega, hp, fun q hq hb => (e q hq).elim (fun z => ?_) (fun z => by subst z; unfold prq; omega)⟩
  rcases h with ⟨h1, h2⟩ | ⟨h1, h2, h3, h4⟩
  · exact absurd hb (h2 q z)
  · have a := h4 q z hb
    have hn : prc s (sOr s m p) (sOr s m c) := hn.resolve_left (by omega)
    unfold prc at hn
    unfold prq at a ⊢
    omega
/-- what holds of the loop over the time -/
def bIv (s : Nat → Int) (m : Int) (n : Nat) (t : Int) (lf : Nat → Int) (uf bd : Int) (v0 : Int → Prop) : Prop := (∀ p : Nat, p < n → 0 ≤ lf (sOr s m p).toNat ∧ lf (sOr s m p).toNat ≤ 30) ∧ uf = cLf s lf m n ∧ (0 ≤ t ∧ t + sLf s lf m n ≤ 400) ∧ (0 ≤ bd ∧ bd ≤ 600) ∧ ∀ v, (∃ N, bR s m N t lf uf bd v) → v0 v
section BdP
variable {s : Nat → Int} {m t : Int} {n : Nat} {lf : Nat → Int} {uf bd : Int} {v0 : Int → Prop}
theorem bIv.non (hA : WfA s) (hO : WfO s) (hm : 0 ≤ m ∧ m ≤ 3) (hn : sOn s m = n) (h : bIv s m n t lf uf bd v0) (hu : 0 < uf) (hc : bIn s lf m t n (-1)) : t < 200 ∧ bIv s m n (t + 1) lf uf bd v0 := by
  obtain ⟨h1, h2, h3, h4, h5⟩ := h
  obtain ⟨o1, o2, o3, o4⟩ := hO m hm.1 hm.2
  have hno : ∀ q : Nat, q < n → ¬ bCd s lf m t (sOr s m q) := by
    rcases hc with ⟨-, z⟩ | ⟨z, -⟩
    · exact z
    · omega
  have ht : t < 200 := by
    obtain ⟨p, hp, hl⟩ := cLf_p n (by rw [← h2]; exact hu)
    have hq := o2 p (by omega) (by omega)
    have hh := hdO_r hA hq.1
    refine Classical.byContradiction fun q => hno p hp ⟨hq.1, hq.2, hl, by omega⟩
  have hr := sLf_r n h1
  refine ⟨ht, h1, h2, ⟨by omega, by omega⟩, h4, fun v ⟨N, hv⟩ => h5 v ⟨N + 1, Or.inr ⟨hu, Or.inl ⟨fun k hk => ?_, hv⟩⟩⟩⟩
  obtain ⟨p, p0, p1, pe⟩ := o4 k hk.1.1 hk.1.2 hk.2.1
  refine hno p.toNat (by omega) ?_
  rw [show ((p.toNat : Nat) : Int) = p by omega, pe]
  exact hk
theorem bIv.one (hA : WfA s) (hO : WfO s) (hm : 0 ≤ m ∧ m ≤ 3) (hn : sOn s m = n) (h : bIv s m n t lf uf bd v0) (hu : 0 < uf) {c : Nat} (hc : bIn s lf m t n c) : c < n ∧ 0 < lf (sOr s m c).toNat ∧ lf (sOr s m c).toNat ≤ 30 ∧ (0 ≤ sOr s m c ∧ sOr s m c < s 1) ∧ sLf s (sup lf (sOr s m c).toNat (lf (sOr s m c).toNat - 1)) m n = sLf s lf m n - 1 ∧ 1 ≤ sLf s lf m n ∧ (lf (sOr s m c).toNat - 1 ≠ 0 → bIv s m n (t + 1) (sup lf (sOr s m c).toNat (lf (sOr s m c).toNat - 1)) uf bd v0) ∧ (lf (sOr s m c).toNat - 1 = 0 → bIv s m n (t + 1) (sup lf (sOr s m c).toNat (lf (sOr s m c).toNat - 1)) (uf - 1) (max bd (t + 1 + tlO s (sOr s m c))) v0) := by
  obtain ⟨h1, h2, h3, h4, h5⟩ := h
  obtain ⟨o1, o2, o3, o4⟩ := hO m hm.1 hm.2
  obtain ⟨hcn, hcd, hal⟩ : (c : Int) < n ∧ bCd s lf m t (sOr s m c) ∧ ∀ q : Nat, q < n → bCd s lf m t (sOr s m q) → prq s (sOr s m c) (sOr s m q) := by
    rcases hc with ⟨z, -⟩ | ⟨-, z⟩
    · omega
    · exact z
  have hch : bCh s lf m t (sOr s m c) := ⟨hcd, fun l hl => by
    obtain ⟨p, p0, p1, pe⟩ := o4 l hl.1.1 hl.1.2 hl.2.1
    have z := hal p.toNat (by omega)
    rw [show ((p.toNat : Nat) : Int) = p by omega, pe] at z
    exact z hl⟩
  have hinj : ∀ p q : Nat, p < n → q < n → (sOr s m p).toNat = (sOr s m q).toNat → p = q := fun p q hp hq e => by
    have a := o2 p (by omega) (by omega)
    have b := o2 q (by omega) (by omega)
    have := o3 p q (by omega) (by omega) (by omega) (by omega) (by omega)
    omega
  have hcl := h1 c (by omega)
  have hs := sLf_s (s := s) (lf := lf) (m := m) (v := lf (sOr s m c).toNat - 1) (p0 := c) n (by omega) hinj
  have htl := tlO_rr hA hcd.1
  have hr := sLf_r n h1
  have hpos := hcd.2.2.1
  rw [if_pos hpos] at hs
  have h1' : ∀ p : Nat, p < n → 0 ≤ sup lf (sOr s m c).toNat (lf (sOr s m c).toNat - 1) (sOr s m p).toNat ∧ sup lf (sOr s m c).toNat (lf (sOr s m c).toNat - 1) (sOr s m p).toNat ≤ 30 := fun p hp => by
    by_cases e : (sOr s m p).toNat = (sOr s m c).toNat
    · rw [e, sup_s]; omega
    · rw [sup_n e]; exact h1 p hp
  have hr' := sLf_r n h1'
  refine ⟨by omega, hpos, hcl.2, hcd.1, by omega, by omega, fun hz => ⟨h1', ?_, ⟨by omega, by omega⟩, h4, fun v ⟨N, hv⟩ => h5 v ⟨N + 1, Or.inr ⟨hu, Or.inr ⟨_, hch, Or.inr ⟨hz, hv⟩⟩⟩⟩⟩, fun hz => ⟨h1', ?_, ⟨by omega, by omega⟩, ⟨by omega, by omega⟩, fun v ⟨N, hv⟩ => h5 v ⟨N + 1, Or.inr ⟨hu, Or.inr ⟨_, hch, Or.inl ⟨hz, hv⟩⟩⟩⟩⟩⟩
  · rw [hs.2, if_pos (by omega)]; omega
  · rw [hs.2, if_neg (by omega)]; omega
end BdP
theorem cLf_all {s lf : Nat → Int} {m : Int} : ∀ n : Nat, (∀ p : Nat, p < n → 0 < lf (sOr s m p).toNat) → cLf s lf m n = n
  | 0, _ => rfl
  | n + 1, h => by
    unfold cLf
    rw [cLf_all n (fun p hp => h p (by omega)), if_pos (h n (by omega))]
    omega
/-- what the bound of the machine m is -/
def bOn (s : Nat → Int) (m v : Int) : Prop := ∃ N, bR s m N 0 (fun k => s (82 + k)) (sOn s m) 0 v
section XBd
variable {b : Nat} {u : tW} {g : zH} {N : Nat}
/-- the row of what is left, by the order -/
abbrev lfA (s lf : Nat → Int) (m : Int) : Nat → Int := fun p => lf (s (183 + 5 * m + p).toNat).toNat
theorem x2_bound {m : Int} {n : Nat} (hb : 1000 ≤ b) (hN : b + 72 ≤ N) (hTp : zTop g N) (hm : 0 ≤ m ∧ m ≤ 3) (hA : WfA (u 0)) (hO : WfO (u 0)) (hn : sOn (u 0) m = n) :
    zMet yX2_bound (ws_ yX2_bound cX2_bound 10 (some .int)) 7 [.ref b, .int (iI m)] (sH b u g) (fun z h' => ∃ v g', z = .inl (some (.int (iI v))) ∧ h' = sH b u g' ∧ bOn (u 0) m v ∧ (0 ≤ v ∧ v ≤ 600) ∧ zExt N g g' ∧ zTop g' (N + 1)) 1 5 := by
  have h20 := hA.2.1.1
  have hn5 := (hO m hm.1 hm.2).1
  obtain ⟨-, o2, o3, -⟩ := hO m hm.1 hm.2
  have hnn : u 0 (179 + m).toNat = n := hn
  generalize hQ : (fun (z : zO) (h' : zH) => ∃ v g', z = .inl (some (.int (iI v))) ∧ h' = sH b u g' ∧ bOn (u 0) m v ∧ (0 ≤ v ∧ v ≤ 600) ∧ zExt N g g' ∧ zTop g' (N + 1)) = Q
  have hq : ∀ v g', bOn (u 0) m v → (0 ≤ v ∧ v ≤ 600) → zExt N g g' → zTop g' (N + 1) → Q (.inl (some (.int (iI v)))) (sH b u g') := fun v g' a1 a2 a3 a4 => by rw [← hQ]; exact ⟨v, g', rfl, rfl, a1, a2, a3, a4⟩
  clear hQ
  refine zMet.of (by decide) (Nat.le_of_ble_eq_true rfl) fun X K => ?_
  have ext : ∀ c : zC, zExt N g (zup g N c) := fun c i hi => zup_ne (by omega)
  have top : ∀ c : zC, zTop (zup g N c) (N + 1) := fun c i hi => (zup_ne (by omega)).trans (hTp i (by omega))
  -- the loop over the time
  have lt : ∀ (M : Nat) (t : Int) (lf : Nat → Int) (uf bd : Int), ((200 - t).toNat + (sLf (u 0) lf m n).toNat : Nat) < M → bIv (u 0) m n t lf uf bd (bOn (u 0) m) → ∀ env, zsub env [(0, .ref b), (2, .ref (b + 20 + m.toNat)), (3, .ref N), (4, .int (iI uf)), (5, .int (iI bd)), (6, .int (iI t))] → zW X Q (sH b u (zup g N (aI n (lfA (u 0) lf m)))) 1 5 73 env [] := by
    intro M
    induction M with
    | zero => intro t lf uf bd h; omega
    | succ M ih =>
      intro t lf uf bd hM hI env he
      refine zW.cut he ?_
      obtain ⟨h1, h2, h3, h4, h5⟩ := id hI
      have hr := sLf_r n h1
      by_cases hu : 0 < uf
      · -- the search for the one that runs
        have c172 : ∀ c : Int, bIn (u 0) lf m t n c → ∀ env, zsub env [(0, .ref b), (2, .ref (b + 20 + m.toNat)), (3, .ref N), (4, .int (iI uf)), (5, .int (iI bd)), (6, .int (iI t)), (7, .int (iI c))] → zW X Q (sH b u (zup g N (aI n (lfA (u 0) lf m)))) 1 5 172 env [] := by
          intro c hc env he
          refine zW.cut he ?_
          by_cases hz : c = -1
          · subst hz
            obtain ⟨t2, nx⟩ := hI.non hA hO hm hn hu hc
            have nx := ih (t + 1) lf uf bd (by omega) nx
            clear ih
            refine z_iload K dX2_bound_172 rfl ?_
            refine j_iconst K dX2_bound_174 ?_
            refine j_icmp_ne (tgt := 181) K dX2_bound_175 rfl (by omega) (by omega) (fun c_175 => ?_) (fun c_175 => ?_)
            · exact absurd rfl c_175
            · refine z_goto (tgt := 235) K dX2_bound_178 rfl ?_
              refine j_iinc K dX2_bound_235 rfl (by decide) rfl ?_
              refine z_goto (tgt := 73) K dX2_bound_238 rfl ?_
              exact nx _ ⟨rfl, rfl, rfl, rfl, rfl, rfl, trivial⟩
          · obtain ⟨c, rfl⟩ : ∃ k : Nat, c = k := ⟨c.toNat, by rcases hc with ⟨z, -⟩ | ⟨z, -⟩ <;> omega⟩
            obtain ⟨k1, k2, k3, k4, k5, k8, k6, k7⟩ := hI.one hA hO hm hn hu hc
            have hx : aI n (sup (lfA (u 0) lf m) c (lf (sOr (u 0) m c).toNat - 1)) = aI n (lfA (u 0) (sup lf (sOr (u 0) m c).toNat (lf (sOr (u 0) m c).toNat - 1)) m) := aI_congr fun p hp => by
              by_cases e : p = c
              · subst e; rw [sup_s]; unfold lfA; rw [sup_s]
              · have a := o2 p (by omega) (by omega)
                have a2 := o3 p c (by omega) (by omega) (by omega) (by omega)
                rw [sup_n e]
                unfold lfA
                rw [sup_n (fun z => e (by have := a2 (by (try dsimp only [sRel, sDue, sWt, sLen, sSeq, sJb, sMc, sDu, sFa, sIx, sSu, sBn, sBf, sBl, sOn, sOr] at *); omega); omega))]
            have hset : zup (sH b u (zup g N (aI n (lfA (u 0) lf m)))) N (aI n (sup (lfA (u 0) lf m) ((c : Nat) : Int).toNat (lf (sOr (u 0) m c).toNat - 1))) = sH b u (zup g N (aI n (lfA (u 0) (sup lf (sOr (u 0) m c).toNat (lf (sOr (u 0) m c).toNat - 1)) m))) := by rw [Int.toNat_natCast, sH_upo (by omega), zup_zup, hx]
            have hat : sup lf (sOr (u 0) m c).toNat (lf (sOr (u 0) m c).toNat - 1) (sOr (u 0) m c).toNat = lf (sOr (u 0) m c).toNat - 1 := sup_s
            have n1 := fun z => ih (t + 1) _ uf bd (by omega) (k6 z)
            have n2 := fun z => ih (t + 1) _ _ _ (by omega) (k7 z)
            have htl := tlO_rr hA k4
            clear ih
            (try dsimp only [sRel, sDue, sWt, sLen, sSeq, sJb, sMc, sDu, sFa, sIx, sSu, sBn, sBf, sBl, sOn, sOr] at *)
            refine z_iload K dX2_bound_172 rfl ?_
            refine j_iconst K dX2_bound_174 ?_
            refine j_icmp_ne (tgt := 181) K dX2_bound_175 rfl (by omega) (by omega) (fun c_175 => ?_) (fun c_175 => ?_)
            · refine z_aload_n K dX2_bound_181 rfl rfl rfl ?_
              refine z_iload K dX2_bound_182 rfl ?_
              refine z_dup2 K dX2_bound_184 rfl rfl ?_
              refine j_ild K ((sH_out (by omega)).trans (zup_at _ _ _)) (by omega) (by omega) dX2_bound_185 ?_
              rw [Int.toNat_natCast]
              refine j_iconst K dX2_bound_186 ?_
              refine j_isub K dX2_bound_187 ?_
              refine j_istE K ((sH_out (by omega)).trans (zup_at _ _ _)) (by omega) (by omega) (by omega) dX2_bound_188 (hset) ?_
              refine z_aload_n K dX2_bound_189 rfl rfl rfl ?_
              refine z_iload K dX2_bound_190 rfl ?_
              refine j_ild K ((sH_out (by omega)).trans (zup_at _ _ _)) (by omega) (by omega) dX2_bound_192 ?_
              rw [Int.toNat_natCast]
              show zW X Q _ _ _ 193 _ (.int (iI (sup lf (u 0 (183 + 5 * m + (c : Int)).toNat).toNat (lf (u 0 (183 + 5 * m + (c : Int)).toNat).toNat - 1) (u 0 (183 + 5 * m + (c : Int)).toNat).toNat)) :: _)
              rw [hat]
              refine j_if_le (tgt := 199) K dX2_bound_193 rfl (by omega) (fun c_193 => ?_) (fun c_193 => ?_)
              · have zz := n2 (by omega)
                refine j_iinc K dX2_bound_199 rfl (by decide) rfl ?_
                refine z_iload K dX2_bound_202 rfl ?_
                refine z_iload K dX2_bound_204 rfl ?_
                refine j_iconst K dX2_bound_206 ?_
                refine j_iadd K dX2_bound_207 ?_
                refine z_aload_n K dX2_bound_208 rfl rfl rfl ?_
                refine z_aload_n K dX2_bound_209 rfl rfl rfl ?_
                refine z_get K fd_X2_18_2 (sH_shop) rfl dX2_bound_210 ?_
                refine z_aload_n K dX2_bound_213 rfl rfl rfl ?_
                refine z_get K fd_X2_169_3 (sH_ord ⟨by omega, by omega⟩) rfl dX2_bound_214 ?_
                refine z_iload K dX2_bound_217 rfl ?_
                refine s_ldrow K (⟨by omega, by omega⟩) (by omega) (by omega) dX2_bound_219 ?_
                refine z_callV K (gt_ops ⟨by omega, by omega⟩ (by omega)) cV_X2_59_J2 (sH_ops) rfl rfl rfl (by omega) (by omega) (by omega) (Nat.le_of_ble_eq_true rfl) dX2_bound_220 zrX (zrK ?_)
                refine z_castS K (sH_op ⟨by omega, by omega⟩ (by omega)) rfl q408 dX2_bound_223 ?_
                refine z_callV K (x2_tail hA ⟨by omega, by omega⟩) cV_X2_232_X2 (sH_shop) rfl rfl rfl (by omega) (by omega) (by omega) (Nat.le_of_ble_eq_true rfl) dX2_bound_226 zrX (zrK ?_)
                refine j_iadd K dX2_bound_229 ?_
                refine z_callS K ((s_max (by omega) (by omega)).r) cS_X2_147 rfl rfl (by omega) (by omega) (by omega) (Nat.le_of_ble_eq_true rfl) dX2_bound_230 zrX (zrK ?_)
                refine z_istore K dX2_bound_233 (by decide) rfl ?_
                refine j_iinc K dX2_bound_235 rfl (by decide) rfl ?_
                refine z_goto (tgt := 73) K dX2_bound_238 rfl ?_
                exact zz _ ⟨rfl, rfl, rfl, rfl, rfl, rfl, trivial⟩
              · have zz := n1 (by omega)
                refine z_goto (tgt := 235) K dX2_bound_196 rfl ?_
                refine j_iinc K dX2_bound_235 rfl (by decide) rfl ?_
                refine z_goto (tgt := 73) K dX2_bound_238 rfl ?_
                exact zz _ ⟨rfl, rfl, rfl, rfl, rfl, rfl, trivial⟩
            · exact absurd c_175 (by omega)
        have lp : ∀ (r p : Nat), p + r = n → ∀ c : Int, bIn (u 0) lf m t p c → ∀ env, zsub env [(0, .ref b), (2, .ref (b + 20 + m.toNat)), (3, .ref N), (4, .int (iI uf)), (5, .int (iI bd)), (6, .int (iI t)), (7, .int (iI c)), (8, .int (iI p))] → zW X Q (sH b u (zup g N (aI n (lfA (u 0) lf m)))) 1 5 84 env [] := by
          intro r
          induction r with
          | zero =>
            intro p hp c hc env he
            obtain rfl : p = n := by omega
            refine zW.cut he ?_
            have kk := c172 c hc
            clear c172 ih
            refine z_iload K dX2_bound_84 rfl ?_
            refine z_aload_n K dX2_bound_86 rfl rfl rfl ?_
            refine z_get K fd_X2_167_3 (sH_ord ⟨by omega, by omega⟩) rfl dX2_bound_87 ?_
            refine j_icmp_ge (tgt := 172) K dX2_bound_90 rfl (by omega) (by omega) (fun c_90 => ?_) (fun c_90 => ?_)
            · exact kk _ ⟨rfl, rfl, rfl, rfl, rfl, rfl, rfl, trivial⟩
            · exact absurd c_90 (by omega)
          | succ r ihp =>
            intro p hp c hc env he
            refine zW.cut he ?_
            have hop := o2 p (by omega) (by omega)
            have hhd := hdO_r hA hop.1
            have hcr : -1 ≤ c ∧ c < p := by rcases hc with ⟨z, -⟩ | ⟨z, z2, -⟩ <;> omega
            have hoc : c ≠ -1 → 0 ≤ sOr (u 0) m c ∧ sOr (u 0) m c < u 0 1 := fun z => (o2 c (by omega) (by omega)).1
            have n0 := fun z => ihp (p + 1) (by omega) c (hc.no z)
            have n1 := fun z1 z2 => ihp (p + 1) (by omega) c (hc.keep z1 z2)
            have n2 := fun z1 z2 => ihp (p + 1) (by omega) p (hc.new z1 z2)
            have cd : bCd (u 0) lf m t (sOr (u 0) m p) ↔ 0 < lf (sOr (u 0) m p).toNat ∧ hdO (u 0) (sOr (u 0) m p) ≤ t := ⟨fun z => z.2.2, fun z => ⟨hop.1, hop.2, z⟩⟩
            have hpc := fun (z : c ≠ -1) => x2_precedes (b := b) (u := u) (g := zup g N (aI n (lfA (u 0) lf m))) (k := sOr (u 0) m p) (l := sOr (u 0) m c) hA hop.1 (hoc z)
            have hlp := h1 p (by omega)
            clear ih ihp c172 h5
            (try dsimp only [sRel, sDue, sWt, sLen, sSeq, sJb, sMc, sDu, sFa, sIx, sSu, sBn, sBf, sBl, sOn, sOr] at *)
            refine z_iload K dX2_bound_84 rfl ?_
            refine z_aload_n K dX2_bound_86 rfl rfl rfl ?_
            refine z_get K fd_X2_167_3 (sH_ord ⟨by omega, by omega⟩) rfl dX2_bound_87 ?_
            refine j_icmp_ge (tgt := 172) K dX2_bound_90 rfl (by omega) (by omega) (fun c_90 => ?_) (fun c_90 => ?_)
            · exact absurd c_90 (by omega)
            · refine z_aload_n K dX2_bound_93 rfl rfl rfl ?_
              refine z_get K fd_X2_18_2 (sH_shop) rfl dX2_bound_94 ?_
              refine z_aload_n K dX2_bound_97 rfl rfl rfl ?_
              refine z_get K fd_X2_169_3 (sH_ord ⟨by omega, by omega⟩) rfl dX2_bound_98 ?_
              refine z_iload K dX2_bound_101 rfl ?_
              refine s_ldrow K (⟨by omega, by omega⟩) (by omega) (by omega) dX2_bound_103 ?_
              refine z_callV K (gt_ops ⟨by omega, by omega⟩ (by omega)) cV_X2_59_J2 (sH_ops) rfl rfl rfl (by omega) (by omega) (by omega) (Nat.le_of_ble_eq_true rfl) dX2_bound_104 zrX (zrK ?_)
              refine z_castS K (sH_op ⟨by omega, by omega⟩ (by omega)) rfl q408 dX2_bound_107 ?_
              refine z_astore K dX2_bound_110 rfl (by decide) rfl ?_
              refine z_aload_n K dX2_bound_112 rfl rfl rfl ?_
              refine z_iload K dX2_bound_113 rfl ?_
              refine j_ild K ((sH_out (by omega)).trans (zup_at _ _ _)) (by omega) (by omega) dX2_bound_115 ?_
              rw [Int.toNat_natCast]
              show zW X Q _ _ _ 116 _ (.int (iI (lf (u 0 (183 + 5 * m + (p : Int)).toNat).toNat)) :: _)
              refine j_if_le (tgt := 166) K dX2_bound_116 rfl (by omega) (fun c_116 => ?_) (fun c_116 => ?_)
              · have zz := n0 (fun z => by have := (cd.mp z).1; omega)
                refine j_iinc K dX2_bound_166 rfl (by decide) rfl ?_
                refine z_goto (tgt := 84) K dX2_bound_169 rfl ?_
                exact zz _ ⟨rfl, rfl, rfl, rfl, rfl, rfl, rfl, rfl, trivial⟩
              · refine z_aload_n K dX2_bound_119 rfl rfl rfl ?_
                refine z_aload K dX2_bound_120 rfl rfl ?_
                refine z_callV K (x2_head hA ⟨by omega, by omega⟩) cV_X2_225_X2 (sH_shop) rfl rfl rfl (by omega) (by omega) (by omega) (Nat.le_of_ble_eq_true rfl) dX2_bound_122 zrX (zrK ?_)
                refine z_iload K dX2_bound_125 rfl ?_
                refine j_icmp_gt (tgt := 166) K dX2_bound_127 rfl (by omega) (by omega) (fun c_127 => ?_) (fun c_127 => ?_)
                · have zz := n0 (fun z => by have := (cd.mp z).2; omega)
                  refine j_iinc K dX2_bound_166 rfl (by decide) rfl ?_
                  refine z_goto (tgt := 84) K dX2_bound_169 rfl ?_
                  exact zz _ ⟨rfl, rfl, rfl, rfl, rfl, rfl, rfl, rfl, trivial⟩
                · refine z_iload K dX2_bound_130 rfl ?_
                  refine j_iconst K dX2_bound_132 ?_
                  refine j_icmp_eq (tgt := 162) K dX2_bound_133 rfl (by omega) (by omega) (fun c_133 => ?_) (fun c_133 => ?_)
                  · have zz := n2 (cd.mpr ⟨by omega, by omega⟩) (Or.inl c_133)
                    refine z_iload K dX2_bound_162 rfl ?_
                    refine z_istore K dX2_bound_164 (by decide) rfl ?_
                    refine j_iinc K dX2_bound_166 rfl (by decide) rfl ?_
                    refine z_goto (tgt := 84) K dX2_bound_169 rfl ?_
                    exact zz _ ⟨rfl, rfl, rfl, rfl, rfl, rfl, rfl, rfl, trivial⟩
                  · have hoc := hoc c_133
                    refine z_aload_n K dX2_bound_136 rfl rfl rfl ?_
                    refine z_aload K dX2_bound_137 rfl rfl ?_
                    refine z_aload_n K dX2_bound_139 rfl rfl rfl ?_
                    refine z_get K fd_X2_18_2 (sH_shop) rfl dX2_bound_140 ?_
                    refine z_aload_n K dX2_bound_143 rfl rfl rfl ?_
                    refine z_get K fd_X2_169_3 (sH_ord ⟨by omega, by omega⟩) rfl dX2_bound_144 ?_
                    refine z_iload K dX2_bound_147 rfl ?_
                    refine s_ldrow K (⟨by omega, by omega⟩) (by omega) (by omega) dX2_bound_149 ?_
                    refine z_callV K (gt_ops ⟨by omega, by omega⟩ (by omega)) cV_X2_59_J2 (sH_ops) rfl rfl rfl (by omega) (by omega) (by omega) (Nat.le_of_ble_eq_true rfl) dX2_bound_150 zrX (zrK ?_)
                    refine z_castS K (sH_op ⟨by omega, by omega⟩ (by omega)) rfl q408 dX2_bound_153 ?_
                    refine z_callV K (hpc c_133) cV_X2_228_X2 (sH_shop) rfl rfl rfl (by omega) (by omega) (by omega) (Nat.le_of_ble_eq_true rfl) dX2_bound_156 zrX (zrK ?_)
                    refine j_if_eq (tgt := 166) K dX2_bound_159 rfl (b01r _) (fun c_159 => ?_) (fun c_159 => ?_)
                    · have zz := n1 c_133 (bI_eq.mp c_159)
                      refine j_iinc K dX2_bound_166 rfl (by decide) rfl ?_
                      refine z_goto (tgt := 84) K dX2_bound_169 rfl ?_
                      exact zz _ ⟨rfl, rfl, rfl, rfl, rfl, rfl, rfl, rfl, trivial⟩
                    · have zz := n2 (cd.mpr ⟨by omega, by omega⟩) (Or.inr (bI_ne.mp c_159))
                      refine z_iload K dX2_bound_162 rfl ?_
                      refine z_istore K dX2_bound_164 (by decide) rfl ?_
                      refine j_iinc K dX2_bound_166 rfl (by decide) rfl ?_
                      refine z_goto (tgt := 84) K dX2_bound_169 rfl ?_
                      exact zz _ ⟨rfl, rfl, rfl, rfl, rfl, rfl, rfl, rfl, trivial⟩
        have go := lp n 0 (by omega) (-1) (Or.inl ⟨rfl, fun q hq => by omega⟩)
        have go : ∀ env, zsub env [(0, .ref b), (2, .ref (b + 20 + m.toNat)), (3, .ref N), (4, .int (iI uf)), (5, .int (iI bd)), (6, .int (iI t)), (7, .int (iI (-1))), (8, .int (iI 0))] → zW X Q (sH b u (zup g N (aI n (lfA (u 0) lf m)))) 1 5 84 env [] := go
        clear lp ih c172
        refine z_iload K dX2_bound_73 rfl ?_
        refine j_if_le (tgt := 241) K dX2_bound_75 rfl (by omega) (fun c_75 => ?_) (fun c_75 => ?_)
        · exact absurd c_75 (by omega)
        · refine j_iconst K dX2_bound_78 ?_
          refine z_istore K dX2_bound_79 (by decide) rfl ?_
          refine j_iconst K dX2_bound_81 ?_
          refine z_istore K dX2_bound_82 (by decide) rfl ?_
          exact go _ ⟨rfl, rfl, rfl, rfl, rfl, rfl, rfl, rfl, trivial⟩
      · have hfin := hq bd (zup g N (aI n (lfA (u 0) lf m))) (h5 bd ⟨1, Or.inl ⟨by omega, rfl⟩⟩) h4 (ext _) (top _)
        clear ih
        refine z_iload K dX2_bound_73 rfl ?_
        refine j_if_le (tgt := 241) K dX2_bound_75 rfl (by omega) (fun c_75 => ?_) (fun c_75 => ?_)
        · refine z_iload K dX2_bound_241 rfl ?_
          exact z_iret K (by omega) (by omega) (hfin) dX2_bound_243
        · exact absurd c_75 (by omega)
  -- the row is filled
  have lf0 : ∀ (r p : Nat), p + r = n → ∀ f : Nat → Int, (∀ q, q < p → f q = lfA (u 0) (fun k => u 0 (82 + k)) m q) → ∀ env, zsub env [(0, .ref b), (2, .ref (b + 20 + m.toNat)), (3, .ref N), (4, .int (iI n)), (5, .int (iI p))] → zW X Q (sH b u (zup g N (aI n f))) 1 5 28 env [] := by
    intro r
    induction r with
    | zero =>
      intro p hp f hf env he
      obtain rfl : p = n := by omega
      refine zW.cut he ?_
      have e : aI p f = aI p (lfA (u 0) (fun k => u 0 (82 + k)) m) := aI_congr hf
      have hd : ∀ q : Nat, q < p → 1 ≤ u 0 (82 + (sOr (u 0) m q).toNat) ∧ u 0 (82 + (sOr (u 0) m q).toNat) ≤ 30 := fun q hq => by
        have a := (o2 q (by omega) (by omega)).1
        have c := (hA.2.1.2 _ a.1 a.2).2.2.1
        rw [show sDu (u 0) (sOr (u 0) m q) = u 0 (82 + (sOr (u 0) m q).toNat) from congrArg (u 0) (by omega)] at c
        exact c
      have h0 : ∀ q : Nat, q < p → 0 ≤ (fun k => u 0 (82 + k)) (sOr (u 0) m q).toNat ∧ (fun k => u 0 (82 + k)) (sOr (u 0) m q).toNat ≤ 30 := fun q hq => ⟨by have := (hd q hq).1; show 0 ≤ u 0 (82 + (sOr (u 0) m q).toNat); omega, (hd q hq).2⟩
      have kk := lt ((200 - (0 : Int)).toNat + (sLf (u 0) (fun k => u 0 (82 + k)) m p).toNat + 1) 0 (fun k => u 0 (82 + k)) p 0 (by omega) ⟨h0, (cLf_all p fun q hq => by have := hd q hq; omega).symm, ⟨by omega, by have := (sLf_r (s := u 0) (lf := fun k => u 0 (82 + k)) (m := m) p h0).1; omega⟩, by omega, fun v hv => by unfold bOn; rw [hn]; exact hv⟩
      rw [← e] at kk
      clear lt
      refine z_iload K dX2_bound_28 rfl ?_
      refine z_aload_n K dX2_bound_30 rfl rfl rfl ?_
      refine z_get K fd_X2_167_3 (sH_ord ⟨by omega, by omega⟩) rfl dX2_bound_31 ?_
      refine j_icmp_ge (tgt := 67) K dX2_bound_34 rfl (by omega) (by omega) (fun c_34 => ?_) (fun c_34 => ?_)
      · refine j_iconst K dX2_bound_67 ?_
        refine z_istore K dX2_bound_68 (by decide) rfl ?_
        refine j_iconst K dX2_bound_70 ?_
        refine z_istore K dX2_bound_71 (by decide) rfl ?_
        exact kk _ ⟨rfl, rfl, rfl, rfl, rfl, rfl, trivial⟩
      · exact absurd c_34 (by omega)
    | succ r ih =>
      intro p hp f hf env he
      refine zW.cut he ?_
      have hop := o2 p (by omega) (by omega)
      have nx := ih (p + 1) (by omega) (sup f p (sDu (u 0) (sOr (u 0) m p))) (fun q hq => by
        by_cases e : q = p
        · subst e; rw [sup_s]; exact congrArg (u 0) (by (try dsimp only [sRel, sDue, sWt, sLen, sSeq, sJb, sMc, sDu, sFa, sIx, sSu, sBn, sBf, sBl, sOn, sOr] at *); omega)
        · rw [sup_n e]; exact hf q (by omega))
      have hset : zup (sH b u (zup g N (aI n f))) N (aI n (sup f ((p : Nat) : Int).toNat (sDu (u 0) (sOr (u 0) m p)))) = sH b u (zup g N (aI n (sup f p (sDu (u 0) (sOr (u 0) m p))))) := by rw [Int.toNat_natCast, sH_upo (by omega), zup_zup]
      clear ih lt
      (try dsimp only [sRel, sDue, sWt, sLen, sSeq, sJb, sMc, sDu, sFa, sIx, sSu, sBn, sBf, sBl, sOn, sOr] at *)
      refine z_iload K dX2_bound_28 rfl ?_
      refine z_aload_n K dX2_bound_30 rfl rfl rfl ?_
      refine z_get K fd_X2_167_3 (sH_ord ⟨by omega, by omega⟩) rfl dX2_bound_31 ?_
      refine j_icmp_ge (tgt := 67) K dX2_bound_34 rfl (by omega) (by omega) (fun c_34 => ?_) (fun c_34 => ?_)
      · exact absurd c_34 (by omega)
      · refine z_aload_n K dX2_bound_37 rfl rfl rfl ?_
        refine z_iload K dX2_bound_38 rfl ?_
        refine z_aload_n K dX2_bound_40 rfl rfl rfl ?_
        refine z_get K fd_X2_18_2 (sH_shop) rfl dX2_bound_41 ?_
        refine z_aload_n K dX2_bound_44 rfl rfl rfl ?_
        refine z_get K fd_X2_169_3 (sH_ord ⟨by omega, by omega⟩) rfl dX2_bound_45 ?_
        refine z_iload K dX2_bound_48 rfl ?_
        refine s_ldrow K (⟨by omega, by omega⟩) (by omega) (by omega) dX2_bound_50 ?_
        refine z_callV K (gt_ops ⟨by omega, by omega⟩ (by omega)) cV_X2_59_J2 (sH_ops) rfl rfl rfl (by omega) (by omega) (by omega) (Nat.le_of_ble_eq_true rfl) dX2_bound_51 zrX (zrK ?_)
        refine z_castS K (sH_op ⟨by omega, by omega⟩ (by omega)) rfl q408 dX2_bound_54 ?_
        refine z_get K fd_X2_85_5 (sH_op ⟨by omega, by omega⟩ (by omega)) rfl dX2_bound_57 ?_
        refine j_istE K ((sH_out (by omega)).trans (zup_at _ _ _)) (by omega) (by omega) (by omega) dX2_bound_60 (hset) ?_
        refine j_iinc K dX2_bound_61 rfl (by decide) rfl ?_
        refine z_goto (tgt := 28) K dX2_bound_64 rfl ?_
        exact nx _ ⟨rfl, rfl, rfl, rfl, rfl, trivial⟩
  have go := lf0 n 0 (by omega) (fun _ => 0) (fun q hq => by omega)
  have go : ∀ env, zsub env [(0, .ref b), (2, .ref (b + 20 + m.toNat)), (3, .ref N), (4, .int (iI n)), (5, .int (iI 0))] → zW X Q (sH b u (zup g N (aI n fun _ => 0))) 1 5 28 env [] := go
  clear lf0 lt
  (try dsimp only [sRel, sDue, sWt, sLen, sSeq, sJb, sMc, sDu, sFa, sIx, sSu, sBn, sBf, sBl, sOn, sOr] at *)
  refine z_aload_n K dX2_bound_0 rfl rfl rfl ?_
  refine z_get K fd_X2_28_2 (sH_shop) rfl dX2_bound_1 ?_
  refine z_iload_n K dX2_bound_4 rfl rfl ?_
  refine z_callV K (gt_ord ⟨by omega, by omega⟩) cV_X2_59_J2 (sH_ords) rfl rfl rfl (by omega) (by omega) (by omega) (Nat.le_of_ble_eq_true rfl) dX2_bound_5 zrX (zrK ?_)
  refine z_castS K (sH_ord ⟨by omega, by omega⟩) rfl q246 dX2_bound_8 ?_
  refine z_astore_n K dX2_bound_11 rfl rfl (by decide) rfl ?_
  refine z_aload_n K dX2_bound_12 rfl rfl rfl ?_
  refine z_get K fd_X2_167_3 (sH_ord ⟨by omega, by omega⟩) rfl dX2_bound_13 ?_
  refine z_newi K (N) (by omega) (by omega) ((sH_out (by omega)).trans (hTp N (Nat.le_refl N))) (by omega) (by omega) (by omega) dX2_bound_16 ?_
  rw [hnn, Int.toNat_natCast, aI_zero, sH_upo (by omega)]
  refine z_astore_n K dX2_bound_18 rfl rfl (by decide) rfl ?_
  refine z_aload_n K dX2_bound_19 rfl rfl rfl ?_
  refine z_get K fd_X2_167_3 (sH_ord ⟨by omega, by omega⟩) rfl dX2_bound_20 ?_
  refine z_istore K dX2_bound_23 (by decide) rfl ?_
  refine j_iconst K dX2_bound_25 ?_
  refine z_istore K dX2_bound_26 (by decide) rfl ?_
  exact zW.widen (by omega) (by omega) (go _ ⟨rfl, rfl, rfl, by rw [← hnn]; rfl, rfl, trivial⟩)
end XBd

