/-! ===== the reference: the critical path ===== -/
/-- only the fields listed have changed -/
def Fr (S : List Nat) (w w' : tW) : Prop := ∀ f, f ∉ S → w' f = w f
theorem Fr.rf {S : List Nat} {w : tW} : Fr S w w := fun _ _ => rfl
theorem Fr.set {S : List Nat} {w w' : tW} (h : Fr S w w') {f i : Nat} {v : Int} (hf : f ∈ S) : Fr S w (tset w' f i v) := fun g hg => by
  have : g ≠ f := fun e => hg (e ▸ hf)
  rw [← h g hg]
  funext j
  exact tset_f this
theorem Fr.tr {S : List Nat} {a b c : tW} (h : Fr S a b) (g : Fr S b c) : Fr S a c := fun f hf => (g f hf).trans (h f hf)
theorem Fr.wt {S : List Nat} {w w' : tW} (h : Fr S w w') {rd st : Nat → Int} (h1 : 11 ∈ S) (h2 : 12 ∈ S) : Fr S w (wt w' rd st) := fun g hg => by
  exact (wt_o (f := g) (fun e => hg (by rw [e]; exact h1)) (fun e => hg (by rw [e]; exact h2))).trans (h g hg)
theorem Fr.mono {S S' : List Nat} {w w' : tW} (h : Fr S w w') (hs : ∀ f ∈ S, f ∈ S') : Fr S' w w' := fun f hf => h f (fun e => hf (hs f e))
/-- how many of the first n start before x -/
def cntL (st : Nat → Int) (x : Int) : Nat → Nat
  | 0 => 0
  | n + 1 => cntL st x n + (if st n < x then 1 else 0)
theorem cntL_mono {st : Nat → Int} {x y : Int} (h : x ≤ y) : ∀ n, cntL st x n ≤ cntL st y n
  | 0 => Nat.le_refl _
  | n + 1 => by
    have := cntL_mono (st := st) h n
    unfold cntL
    split <;> split <;> omega
theorem cntL_lt {st : Nat → Int} {x y : Int} (h : x ≤ y) {i : Nat} (h1 : x ≤ st i) (h2 : st i < y) : ∀ n, i < n → cntL st x n + 1 ≤ cntL st y n
  | 0, hi => by omega
  | n + 1, hi => by
    unfold cntL
    rcases (by omega : i = n ∨ i < n) with q | q
    · subst q
      have := cntL_mono (st := st) h i
      rw [if_neg (by omega), if_pos h2]
      omega
    · have := cntL_lt h h1 h2 n q
      split <;> split <;> omega
theorem cntL_le (st : Nat → Int) (x : Int) : ∀ n, cntL st x n ≤ n
  | 0 => Nat.le_refl _
  | n + 1 => by have := cntL_le st x n; unfold cntL; split <;> omega
theorem cntL_at {st : Nat → Int} {x : Int} {i : Nat} (h1 : x ≤ st i) : ∀ n, i < n → cntL st x n + 1 ≤ n
  | 0, hi => by omega
  | n + 1, hi => by
    unfold cntL
    rcases (by omega : i = n ∨ i < n) with q | q
    · subst q
      have := cntL_le st x i
      rw [if_neg (by omega)]
      omega
    · have := cntL_at h1 n q
      split <;> omega
/-- the last operation: the first of those that end last, among the first n -/
def lstO (s st : Nat → Int) : Nat → Int
  | 0 => -1
  | n + 1 => if lstO s st n = -1 ∨ st (lstO s st n).toNat + s (82 + lstO s st n).toNat < st n + s (82 + (n : Int)).toNat then n else lstO s st n
theorem lstO_r (s st : Nat → Int) : ∀ n, lstO s st n = -1 ∨ (0 ≤ lstO s st n ∧ lstO s st n < n)
  | 0 => Or.inl rfl
  | n + 1 => by
    have := lstO_r s st n
    unfold lstO
    split
    · right; omega
    · rcases this with h | h
      · exact Or.inl h
      · right; omega
theorem lstO_n {s st : Nat → Int} {n : Nat} (h : 0 < n) : lstO s st n ≠ -1 := by
  cases n with
  | zero => omega
  | succ n =>
    unfold lstO
    split
    · omega
    · next q => exact fun e => q (Or.inl e)
/-- who is ahead on the critical path -/
def nxtO (s o rd st : Nat → Int) (k : Int) : Int := if sBef s k ≠ -1 ∧ st (sBef s k).toNat + sDu s (sBef s k) = rd k.toNat then sBef s k else if sAh s o k ≠ -1 ∧ st (sAh s o k).toNat + sDu s (sAh s o k) + sSu s (sAh s o k) k = rd k.toNat then sAh s o k else -1
/-- the critical path from k back -/
def pthO (s o rd st : Nat → Int) : Nat → Int → List Int
  | 0, _ => []
  | n + 1, k => if k = -1 then [] else k :: pthO s o rd st n (nxtO s o rd st k)
theorem nxtO_ok {s o : Nat → Int} {hd hu : Int} {rd st : Nat → Int} (hA : WfA s) (hO : WfO s) (h : Tp s o hd hu rd st) {k : Int} (h0 : 0 ≤ k) (h1 : k < s 1) (hs : 0 ≤ st k.toNat) : nxtO s o rd st k = -1 ∨ ((0 ≤ nxtO s o rd st k ∧ nxtO s o rd st k < s 1) ∧ st (nxtO s o rd st k).toNat < st k.toNat) := by
  obtain ⟨l1, l2⟩ := h.lt hA hO h0 h1 hs
  unfold nxtO
  split
  · next q =>
    obtain ⟨hb1, -⟩ := (sBef_ok hA h0 h1).resolve_left q.1
    exact Or.inr ⟨hb1, l1 q.1⟩
  · split
    · next q =>
      obtain ⟨-, hb1, -⟩ := (sAh_ok hA hO h0 h1).resolve_left q.1
      exact Or.inr ⟨hb1, l2 q.1⟩
    · exact Or.inl rfl
/-- the path's list, of a schedule without a cycle -/
def pthS (s o rd st : Nat → Int) : List Int := pthO s o rd st 21 (lstO s st (s 1).toNat)
theorem tw_findPath {w : tW} {bb : Int} (hbb : 500 ≤ bb ∧ bb ≤ 3200) (hhb : w 14 0 = -1 ∨ w 15 0 ≤ bb) (hA : WfA (w 0)) (hO : WfO (w 0)) (ho : ∀ m : Nat, m < 4 → 0 ≤ w 13 m ∧ w 13 m ≤ 1) (hd : -1 ≤ w 14 0 ∧ w 14 0 ≤ 100) (hu : 0 ≤ w 15 0 ∧ w 15 0 ≤ 3000) (hac : ∀ rd st, fT w bb rd st → cntU st (w 0 1).toNat = 0) :
    tMv yX4_findPath cX4_findPath 5 6 [] w (fun w' => ∃ rd st, fT w bb rd st ∧ Fr [11, 12, 16, 17] w w' ∧ w' 11 = rd ∧ w' 12 = st ∧ w' 17 0 = (pthS (w 0) (w 13) rd st).length ∧ (pthS (w 0) (w 13) rd st).length ≤ 20 ∧ ∀ i : Nat, i < (pthS (w 0) (w 13) rd st).length → (pthS (w 0) (w 13) rd st)[i]? = some (w' 16 i) ∧ 0 ≤ w' 16 i ∧ w' 16 i < w 0 1) := by
  have h20 := hA.2.1.1
  have e1 : (1 : Int).toNat = 1 := rfl
  refine zMet.of (by decide) (Nat.le_of_ble_eq_true rfl) fun X K => ?_
  have main : ∀ rd st, fT w bb rd st → ∀ env, zsub env [(0, .ref 1000)] → zW X (zPv fun h' => ∃ w', h' = tH w' ∧ ∃ rd st, fT w bb rd st ∧ Fr [11, 12, 16, 17] w w' ∧ w' 11 = rd ∧ w' 12 = st ∧ w' 17 0 = (pthS (w 0) (w 13) rd st).length ∧ (pthS (w 0) (w 13) rd st).length ≤ 20 ∧ ∀ i : Nat, i < (pthS (w 0) (w 13) rd st).length → (pthS (w 0) (w 13) rd st)[i]? = some (w' 16 i) ∧ 0 ≤ w' 16 i ∧ w' 16 i < w 0 1) (tH (tset (wt w rd st) 17 0 0)) 0 0 10 env [] := by
    intro rd st hT env he
    have hall := cntU_0.mp (hac rd st hT)
    have hpl : ∀ k : Int, 0 ≤ k → k < w 0 1 → 0 ≤ st k.toNat ∧ st k.toNat ≤ 4000 := fun k k0 k1 => by have := hall k.toNat (by omega); have := hT.2.2 k.toNat (by omega); omega
    have hdu : ∀ k : Int, 0 ≤ k → k < w 0 1 → 1 ≤ w 0 (82 + k).toNat ∧ w 0 (82 + k).toNat ≤ 30 := fun k k0 k1 => (hA.2.1.2 k k0 k1).2.2.1
    -- the path itself
    have back : ∀ (n : Nat) (k : Int) (w2 : tW) (q : Nat) (pre : List Int), (k = -1 ∨ (0 ≤ k ∧ k < w 0 1)) → (k ≠ -1 → q + cntL st (st k.toNat) (w 0 1).toNat + 1 ≤ (w 0 1).toNat ∧ cntL st (st k.toNat) (w 0 1).toNat < n) → Fr [11, 12, 16, 17] w w2 → w2 11 = rd → w2 12 = st → w2 17 0 = q → q ≤ 20 → pre.length = q → (∀ i : Nat, i < q → pre[i]? = some (w2 16 i) ∧ 0 ≤ w2 16 i ∧ w2 16 i < w 0 1) → pthS (w 0) (w 13) rd st = pre ++ pthO (w 0) (w 13) rd st n k → ∀ env, zsub env [(0, .ref 1000), (2, .int (iI k))] → zW X (zPv fun h' => ∃ w', h' = tH w' ∧ ∃ rd st, fT w bb rd st ∧ Fr [11, 12, 16, 17] w w' ∧ w' 11 = rd ∧ w' 12 = st ∧ w' 17 0 = (pthS (w 0) (w 13) rd st).length ∧ (pthS (w 0) (w 13) rd st).length ≤ 20 ∧ ∀ i : Nat, i < (pthS (w 0) (w 13) rd st).length → (pthS (w 0) (w 13) rd st)[i]? = some (w' 16 i) ∧ 0 ≤ w' 16 i ∧ w' 16 i < w 0 1) (tH w2) 0 0 54 env [] := by
      intro n
      induction n with
      | zero =>
        intro k w2 q pre hk hc hFr h11 h12 h17 hq hpl2 hpa hpt env he
        have hk1 : k = -1 := by
          rcases hk with c | c
          · exact c
          · have := (hc (by omega)).2; omega
        subst hk1
        have hpt : pthS (w 0) (w 13) rd st = pre := by rw [hpt]; simp [pthO]
        refine zW.cut he ?_
        refine z_iload_n K dX4_findPath_54 rfl rfl ?_
        refine j_iconst K dX4_findPath_55 ?_
        refine j_icmp_eq (tgt := 155) K dX4_findPath_56 rfl (by omega) (by omega) (fun c_56 => ?_) (fun c_56 => ?_)
        · exact t_vret K (Nat.le_refl _) (Nat.le_refl _) (⟨rd, st, hT, hFr, h11, h12, by rw [hpt, hpl2, h17], by rw [hpt, hpl2]; exact hq, by rw [hpt, hpl2]; exact hpa⟩) dX4_findPath_155
        · exact absurd rfl c_56
      | succ n ih =>
        intro k w2 q pre hk hc hFr h11 h12 h17 hq hpl2 hpa hpt env he
        refine zW.cut he ?_
        by_cases hk1 : k = -1
        · subst hk1
          have hpt : pthS (w 0) (w 13) rd st = pre := by rw [hpt]; simp [pthO]
          refine z_iload_n K dX4_findPath_54 rfl rfl ?_
          refine j_iconst K dX4_findPath_55 ?_
          refine j_icmp_eq (tgt := 155) K dX4_findPath_56 rfl (by omega) (by omega) (fun c_56 => ?_) (fun c_56 => ?_)
          · exact t_vret K (Nat.le_refl _) (Nat.le_refl _) (⟨rd, st, hT, hFr, h11, h12, by rw [hpt, hpl2, h17], by rw [hpt, hpl2]; exact hq, by rw [hpt, hpl2]; exact hpa⟩) dX4_findPath_155
          · exact absurd rfl c_56
        · have hkr := hk.resolve_left hk1
          obtain ⟨hc1, hc2⟩ := hc hk1
          have hpk := hpl k hkr.1 hkr.2
          have g0 : (tset (tset w2 16 q k) 17 0 ((q : Int) + 1)) = (tset (tset w2 16 q k) 17 0 ((q : Int) + 1)) := rfl
          generalize hw3 : tset (tset w2 16 q k) 17 0 ((q : Int) + 1) = w3 at g0
          have hFr3 : Fr [11, 12, 16, 17] w w3 := by rw [← hw3]; exact (hFr.set (by decide)).set (by decide)
          have f0 : w3 0 = w 0 := hFr3 0 (by decide)
          have f13 : w3 13 = w 13 := hFr3 13 (by decide)
          have f11 : w3 11 = rd := by rw [← hw3, ← h11]; funext i; rw [tset_f (by decide), tset_f (by decide)]
          have f12 : w3 12 = st := by rw [← hw3, ← h12]; funext i; rw [tset_f (by decide), tset_f (by decide)]
          have f17 : w3 17 0 = ((q + 1 : Nat) : Int) := by rw [← hw3, tset_s]; omega
          have f16 : ∀ i : Nat, i < q + 1 → (pre ++ [k])[i]? = some (w3 16 i) ∧ 0 ≤ w3 16 i ∧ w3 16 i < w 0 1 := fun i hi => by
            by_cases c : i = q
            · subst c
              have e : w3 16 i = k := by rw [← hw3, tset_f (by decide), tset_s]
              rw [e, ← hpl2, List.getElem?_append_right (Nat.le_refl _), Nat.sub_self]
              exact ⟨rfl, hkr⟩
            · have e : w3 16 i = w2 16 i := by rw [← hw3, tset_f (by decide), tset_i c]
              rw [e, List.getElem?_append_left (by omega)]
              exact hpa i (by omega)
          have hbo := (sBef_ok hA hkr.1 hkr.2).imp id fun q => q.1
          have hao := (sAh_ok (o := w 13) hA hO hkr.1 hkr.2).imp id fun q => q.2.1
          have hTk := hT.1 k hkr.1 hkr.2 hpk.1
          have hrdr : -1000 ≤ rd k.toNat ∧ rd k.toNat ≤ 4000 := by
            have h1 := hTk.2.2.2.1
            have h2 := (sRdy_le (o := w 13) (f := fun i => st i.toNat) (b := 4000) hA hO hkr.1 hkr.2 (hbo.imp id fun q => (hpl _ q.1 q.2).2) (hao.imp id fun q => (hpl _ q.1 q.2).2) (by omega)).1
            rw [← hTk.2.2.1] at h2
            have h3 : rd k.toNat ≤ sFrom (w 14 0) (w 15 0) k (rd k.toNat) := by unfold sFrom; split <;> omega
            omega
          have fin : ∀ k' : Int, k' = nxtO (w 0) (w 13) rd st k → ∀ env, zsub env [(0, .ref 1000), (2, .int (iI k'))] → zW X (zPv fun h' => ∃ w', h' = tH w' ∧ ∃ rd st, fT w bb rd st ∧ Fr [11, 12, 16, 17] w w' ∧ w' 11 = rd ∧ w' 12 = st ∧ w' 17 0 = (pthS (w 0) (w 13) rd st).length ∧ (pthS (w 0) (w 13) rd st).length ≤ 20 ∧ ∀ i : Nat, i < (pthS (w 0) (w 13) rd st).length → (pthS (w 0) (w 13) rd st)[i]? = some (w' 16 i) ∧ 0 ≤ w' 16 i ∧ w' 16 i < w 0 1) (tH w3) 0 0 54 env [] := by
            intro k' hk' env he
            have hn := nxtO_ok hA hO hT.1 hkr.1 hkr.2 hpk.1
            rw [← hk'] at hn
            refine ih k' w3 (q + 1) (pre ++ [k]) (hn.imp id And.left) (fun c => ?_) hFr3 f11 f12 f17 (by omega) (by rw [List.length_append, hpl2]; rfl) f16 ?_ env he
            · have hn := hn.resolve_left c
              have := cntL_lt (st := st) (Int.le_of_lt hn.2) (Int.le_refl _) hn.2 (w 0 1).toNat (by omega)
              omega
            · rw [hpt, List.append_assoc, hk']
              show pre ++ (if k = -1 then [] else k :: pthO (w 0) (w 13) rd st n (nxtO (w 0) (w 13) rd st k)) = _
              rw [if_neg hk1]
              rfl
          have hdb : sBef (w 0) k = -1 ∨ (1 ≤ w 0 (82 + sBef (w 0) k).toNat ∧ w 0 (82 + sBef (w 0) k).toNat ≤ 30) := hbo.imp id fun q => hdu _ q.1 q.2
          have hda : sAh (w 0) (w 13) k = -1 ∨ (1 ≤ w 0 (82 + sAh (w 0) (w 13) k).toNat ∧ w 0 (82 + sAh (w 0) (w 13) k).toNat ≤ 30) := hao.imp id fun q => hdu _ q.1 q.2
          have hsb := hbo.imp id fun q => hpl _ q.1 q.2
          have hsa := hao.imp id fun q => hpl _ q.1 q.2
          have hss := hao.imp id fun q => hA.su q hkr
          have hn9 : nxtO (w 0) (w 13) rd st k = nxtO (w 0) (w 13) rd st k := rfl
          conv at hn9 => rhs; unfold nxtO
          (try dsimp only [sRel, sDue, sWt, sLen, sSeq, sJb, sMc, sDu, sFa, sIx, sSu, sBn, sBf, sBl, sOn, sOr] at hn9 hss)
          refine z_iload_n K dX4_findPath_54 rfl rfl ?_
          refine j_iconst K dX4_findPath_55 ?_
          refine j_icmp_eq (tgt := 155) K dX4_findPath_56 rfl (by omega) (by omega) (fun c_56 => ?_) (fun c_56 => ?_)
          · exact absurd c_56 hk1
          · refine z_aload_n K dX4_findPath_59 rfl rfl rfl ?_
            refine t_geta K fd_X4_40_0 rfl dX4_findPath_60 ?_
            refine z_aload_n K dX4_findPath_63 rfl rfl rfl ?_
            refine t_geti K fd_X4_199_0 (by decide) rfl dX4_findPath_64 ?_
            rw [h17]
            refine z_iload_n K dX4_findPath_67 rfl rfl ?_
            refine t_ist K 16 20 rfl rfl rfl (by omega) (by omega) rfl dX4_findPath_68 ?_
            rw [Int.toNat_natCast]
            refine z_aload_n K dX4_findPath_69 rfl rfl rfl ?_
            refine z_dup K dX4_findPath_70 rfl ?_
            refine t_geti K fd_X4_199_0 (by decide) rfl dX4_findPath_71 ?_
            rw [tset_f (by decide), h17]
            refine j_iconst K dX4_findPath_74 ?_
            refine j_iadd K dX4_findPath_75 ?_
            refine t_puti K fd_X4_199_0 ⟨_, rfl, Or.inl rfl⟩ (by decide) rfl rfl dX4_findPath_76 ?_
            rw [hw3]
            refine z_aload_n K dX4_findPath_79 rfl rfl rfl ?_
            refine z_iload_n K dX4_findPath_80 rfl rfl ?_
            refine t_callp K (tw_before (w := w3) (by rw [f0]; exact hA) (by rw [f0]; exact hkr)) cV_X4_151_X4 rfl rfl (by decide) (Nat.le_of_ble_eq_true rfl) (Nat.le_refl _) (Nat.le_refl _) dX4_findPath_81 ?_
            rw [f0]
            refine z_istore_n K dX4_findPath_84 rfl (by decide) rfl ?_
            refine z_aload_n K dX4_findPath_85 rfl rfl rfl ?_
            refine z_iload_n K dX4_findPath_86 rfl rfl ?_
            refine t_callp K (tw_ahead (w := w3) (by rw [f0]; exact hA) (by rw [f0]; exact hO) (by rw [f13]; exact ho) (by rw [f0]; exact hkr)) cV_X4_157_X4 rfl rfl (by decide) (Nat.le_of_ble_eq_true rfl) (Nat.le_refl _) (Nat.le_refl _) dX4_findPath_87 ?_
            rw [f0, f13]
            refine z_istore K dX4_findPath_90 (by decide) rfl ?_
            refine z_iload_n K dX4_findPath_92 rfl rfl ?_
            refine j_iconst K dX4_findPath_93 ?_
            refine j_icmp_eq (tgt := 116) K dX4_findPath_94 rfl (by omega) (by omega) (fun c_94 => ?_) (fun c_94 => ?_)
            · refine z_iload K dX4_findPath_116 rfl ?_
              refine j_iconst K dX4_findPath_118 ?_
              refine j_icmp_eq (tgt := 150) K dX4_findPath_119 rfl (by omega) (by omega) (fun c_119 => ?_) (fun c_119 => ?_)
              · refine j_iconst K dX4_findPath_150 ?_
                refine z_istore_n K dX4_findPath_151 rfl (by decide) rfl ?_
                refine z_goto (tgt := 54) K dX4_findPath_152 rfl ?_
                exact fin _ (by rw [hn9]; clear hpt hpa ih fin f16 hdb hda hsb hsa hss hTk hc1 hc2 hrdr hbo hao; split <;> (try split) <;> first | rfl | omega) _ ⟨rfl, rfl, trivial⟩
              · refine z_aload_n K dX4_findPath_122 rfl rfl rfl ?_
                refine z_iload K dX4_findPath_123 rfl ?_
                refine t_callp K (tw_endOf (by omega)) cV_X4_164_X4 rfl rfl (by decide) (Nat.le_of_ble_eq_true rfl) (Nat.le_refl _) (Nat.le_refl _) dX4_findPath_125 ?_
                rw [f12, f0]
                refine z_aload_n K dX4_findPath_128 rfl rfl rfl ?_
                refine z_iload K dX4_findPath_129 rfl ?_
                refine z_iload_n K dX4_findPath_131 rfl rfl ?_
                refine t_callp K (tw_setup (w := w3) (by omega) (by omega) (by rw [f0]; omega) (by rw [f0]; omega)) cV_X4_172_X4 rfl rfl (by decide) (Nat.le_of_ble_eq_true rfl) (Nat.le_refl _) (Nat.le_refl _) dX4_findPath_132 ?_
                rw [f0]
                refine j_iadd K dX4_findPath_135 ?_
                refine z_aload_n K dX4_findPath_136 rfl rfl rfl ?_
                refine t_geta K fd_X4_26_0 rfl dX4_findPath_137 ?_
                refine z_iload_n K dX4_findPath_140 rfl rfl ?_
                refine t_ild K 11 20 rfl rfl rfl (by omega) (by omega) rfl dX4_findPath_141 ?_
                rw [f11]
                refine j_icmp_ne (tgt := 150) K dX4_findPath_142 rfl (by omega) (by omega) (fun c_142 => ?_) (fun c_142 => ?_)
                · refine j_iconst K dX4_findPath_150 ?_
                  refine z_istore_n K dX4_findPath_151 rfl (by decide) rfl ?_
                  refine z_goto (tgt := 54) K dX4_findPath_152 rfl ?_
                  exact fin _ (by rw [hn9]; clear hpt hpa ih fin f16 hdb hda hsb hsa hss hTk hc1 hc2 hrdr hbo hao; split <;> (try split) <;> first | rfl | omega) _ ⟨rfl, rfl, trivial⟩
                · refine z_iload K dX4_findPath_145 rfl ?_
                  refine z_goto (tgt := 151) K dX4_findPath_147 rfl ?_
                  refine z_istore_n K dX4_findPath_151 rfl (by decide) rfl ?_
                  refine z_goto (tgt := 54) K dX4_findPath_152 rfl ?_
                  exact fin _ (by rw [hn9]; clear hpt hpa ih fin f16 hdb hda hsb hsa hss hTk hc1 hc2 hrdr hbo hao; split <;> (try split) <;> first | rfl | omega) _ ⟨rfl, rfl, trivial⟩
            · refine z_aload_n K dX4_findPath_97 rfl rfl rfl ?_
              refine z_iload_n K dX4_findPath_98 rfl rfl ?_
              refine t_callp K (tw_endOf (by omega)) cV_X4_164_X4 rfl rfl (by decide) (Nat.le_of_ble_eq_true rfl) (Nat.le_refl _) (Nat.le_refl _) dX4_findPath_99 ?_
              rw [f12, f0]
              refine z_aload_n K dX4_findPath_102 rfl rfl rfl ?_
              refine t_geta K fd_X4_26_0 rfl dX4_findPath_103 ?_
              refine z_iload_n K dX4_findPath_106 rfl rfl ?_
              refine t_ild K 11 20 rfl rfl rfl (by omega) (by omega) rfl dX4_findPath_107 ?_
              rw [f11]
              refine j_icmp_ne (tgt := 116) K dX4_findPath_108 rfl (by omega) (by omega) (fun c_108 => ?_) (fun c_108 => ?_)
              · refine z_iload K dX4_findPath_116 rfl ?_
                refine j_iconst K dX4_findPath_118 ?_
                refine j_icmp_eq (tgt := 150) K dX4_findPath_119 rfl (by omega) (by omega) (fun c_119 => ?_) (fun c_119 => ?_)
                · refine j_iconst K dX4_findPath_150 ?_
                  refine z_istore_n K dX4_findPath_151 rfl (by decide) rfl ?_
                  refine z_goto (tgt := 54) K dX4_findPath_152 rfl ?_
                  exact fin _ (by rw [hn9]; clear hpt hpa ih fin f16 hdb hda hsb hsa hss hTk hc1 hc2 hrdr hbo hao; split <;> (try split) <;> first | rfl | omega) _ ⟨rfl, rfl, trivial⟩
                · refine z_aload_n K dX4_findPath_122 rfl rfl rfl ?_
                  refine z_iload K dX4_findPath_123 rfl ?_
                  refine t_callp K (tw_endOf (by omega)) cV_X4_164_X4 rfl rfl (by decide) (Nat.le_of_ble_eq_true rfl) (Nat.le_refl _) (Nat.le_refl _) dX4_findPath_125 ?_
                  rw [f12, f0]
                  refine z_aload_n K dX4_findPath_128 rfl rfl rfl ?_
                  refine z_iload K dX4_findPath_129 rfl ?_
                  refine z_iload_n K dX4_findPath_131 rfl rfl ?_
                  refine t_callp K (tw_setup (w := w3) (by omega) (by omega) (by rw [f0]; omega) (by rw [f0]; omega)) cV_X4_172_X4 rfl rfl (by decide) (Nat.le_of_ble_eq_true rfl) (Nat.le_refl _) (Nat.le_refl _) dX4_findPath_132 ?_
                  rw [f0]
                  refine j_iadd K dX4_findPath_135 ?_
                  refine z_aload_n K dX4_findPath_136 rfl rfl rfl ?_
                  refine t_geta K fd_X4_26_0 rfl dX4_findPath_137 ?_
                  refine z_iload_n K dX4_findPath_140 rfl rfl ?_
                  refine t_ild K 11 20 rfl rfl rfl (by omega) (by omega) rfl dX4_findPath_141 ?_
                  rw [f11]
                  refine j_icmp_ne (tgt := 150) K dX4_findPath_142 rfl (by omega) (by omega) (fun c_142 => ?_) (fun c_142 => ?_)
                  · refine j_iconst K dX4_findPath_150 ?_
                    refine z_istore_n K dX4_findPath_151 rfl (by decide) rfl ?_
                    refine z_goto (tgt := 54) K dX4_findPath_152 rfl ?_
                    exact fin _ (by rw [hn9]; clear hpt hpa ih fin f16 hdb hda hsb hsa hss hTk hc1 hc2 hrdr hbo hao; split <;> (try split) <;> first | rfl | omega) _ ⟨rfl, rfl, trivial⟩
                  · refine z_iload K dX4_findPath_145 rfl ?_
                    refine z_goto (tgt := 151) K dX4_findPath_147 rfl ?_
                    refine z_istore_n K dX4_findPath_151 rfl (by decide) rfl ?_
                    refine z_goto (tgt := 54) K dX4_findPath_152 rfl ?_
                    exact fin _ (by rw [hn9]; clear hpt hpa ih fin f16 hdb hda hsb hsa hss hTk hc1 hc2 hrdr hbo hao; split <;> (try split) <;> first | rfl | omega) _ ⟨rfl, rfl, trivial⟩
              · refine z_iload_n K dX4_findPath_111 rfl rfl ?_
                refine z_istore_n K dX4_findPath_112 rfl (by decide) rfl ?_
                refine z_goto (tgt := 152) K dX4_findPath_113 rfl ?_
                refine z_goto (tgt := 54) K dX4_findPath_152 rfl ?_
                exact fin _ (by rw [hn9]; clear hpt hpa ih fin f16 hdb hda hsb hsa hss hTk hc1 hc2 hrdr hbo hao; split <;> (try split) <;> first | rfl | omega) _ ⟨rfl, rfl, trivial⟩
    have last : ∀ (r i : Nat), i + r = (w 0 1).toNat → ∀ env, zsub env [(0, .ref 1000), (2, .int (iI (lstO (w 0) st i))), (3, .int (iI i))] → zW X (zPv fun h' => ∃ w', h' = tH w' ∧ ∃ rd st, fT w bb rd st ∧ Fr [11, 12, 16, 17] w w' ∧ w' 11 = rd ∧ w' 12 = st ∧ w' 17 0 = (pthS (w 0) (w 13) rd st).length ∧ (pthS (w 0) (w 13) rd st).length ≤ 20 ∧ ∀ i : Nat, i < (pthS (w 0) (w 13) rd st).length → (pthS (w 0) (w 13) rd st)[i]? = some (w' 16 i) ∧ 0 ≤ w' 16 i ∧ w' 16 i < w 0 1) (tH (tset (wt w rd st) 17 0 0)) 0 0 14 env [] := by
      intro r
      have f0 : tset (wt w rd st) 17 0 0 0 = w 0 := rfl
      have f12 : tset (wt w rd st) 17 0 0 12 = st := rfl
      induction r with
      | zero =>
        intro i hi env he
        refine zW.cut he ?_
        have hl := lstO_r (w 0) st i
        refine z_iload_n K dX4_findPath_14 rfl rfl ?_
        refine z_aload_n K dX4_findPath_15 rfl rfl rfl ?_
        refine t_geta K fd_X4_9_0 rfl dX4_findPath_16 ?_
        refine j_iconst K dX4_findPath_19 ?_
        refine t_ild K 0 203 rfl rfl rfl (by omega) (by omega) rfl dX4_findPath_20 ?_
        rw [e1, f0]
        refine j_icmp_ge (tgt := 54) K dX4_findPath_21 rfl (by omega) (by omega) (fun c_21 => ?_) (fun c_21 => ?_)
        · exact back 21 (lstO (w 0) st i) _ 0 [] (by omega) (fun c => by have := cntL_at (st := st) (x := st (lstO (w 0) st i).toNat) (i := (lstO (w 0) st i).toNat) (Int.le_refl _) (w 0 1).toNat (by omega); omega) ((Fr.rf.wt (by decide) (by decide)).set (by decide)) rfl rfl rfl (by omega) rfl (fun j hj => by omega) (by rw [show i = (w 0 1).toNat by omega]; rfl) _ ⟨rfl, rfl, trivial⟩
        · exact absurd c_21 (by omega)
      | succ r ih =>
        intro i hi env he
        refine zW.cut he ?_
        have hl := lstO_r (w 0) st i
        have hsi := hpl i (by omega) (by omega)
        have hdi := hdu i (by omega) (by omega)
        have hsl := hl.imp id fun q => hpl _ q.1 (by omega)
        have hdl := hl.imp id fun q => hdu _ q.1 (by omega)
        have hl1 : lstO (w 0) st (i + 1) = if lstO (w 0) st i = -1 ∨ st (lstO (w 0) st i).toNat + w 0 (82 + lstO (w 0) st i).toNat < st i + w 0 (82 + (i : Int)).toNat then (i : Int) else lstO (w 0) st i := rfl
        have fin : ∀ k' : Int, k' = lstO (w 0) st (i + 1) → ∀ env, zsub env [(0, .ref 1000), (2, .int (iI k')), (3, .int (iI ((i : Int) + 1)))] → zW X (zPv fun h' => ∃ w', h' = tH w' ∧ ∃ rd st, fT w bb rd st ∧ Fr [11, 12, 16, 17] w w' ∧ w' 11 = rd ∧ w' 12 = st ∧ w' 17 0 = (pthS (w 0) (w 13) rd st).length ∧ (pthS (w 0) (w 13) rd st).length ≤ 20 ∧ ∀ i : Nat, i < (pthS (w 0) (w 13) rd st).length → (pthS (w 0) (w 13) rd st)[i]? = some (w' 16 i) ∧ 0 ≤ w' 16 i ∧ w' 16 i < w 0 1) (tH (tset (wt w rd st) 17 0 0)) 0 0 14 env [] := fun k' hk' env he => ih (i + 1) (by omega) env (by rw [← hk']; exact he)
        refine z_iload_n K dX4_findPath_14 rfl rfl ?_
        refine z_aload_n K dX4_findPath_15 rfl rfl rfl ?_
        refine t_geta K fd_X4_9_0 rfl dX4_findPath_16 ?_
        refine j_iconst K dX4_findPath_19 ?_
        refine t_ild K 0 203 rfl rfl rfl (by omega) (by omega) rfl dX4_findPath_20 ?_
        rw [e1, f0]
        refine j_icmp_ge (tgt := 54) K dX4_findPath_21 rfl (by omega) (by omega) (fun c_21 => ?_) (fun c_21 => ?_)
        · exact absurd c_21 (by omega)
        · refine z_iload_n K dX4_findPath_24 rfl rfl ?_
          refine j_iconst K dX4_findPath_25 ?_
          refine j_icmp_eq (tgt := 42) K dX4_findPath_26 rfl (by omega) (by omega) (fun c_26 => ?_) (fun c_26 => ?_)
          · refine z_iload_n K dX4_findPath_42 rfl rfl ?_
            refine z_goto (tgt := 47) K dX4_findPath_43 rfl ?_
            refine z_istore_n K dX4_findPath_47 rfl (by decide) rfl ?_
            refine j_iinc K dX4_findPath_48 rfl (by decide) rfl ?_
            refine z_goto (tgt := 14) K dX4_findPath_51 rfl ?_
            exact fin _ (by (try rw [Int.toNat_natCast] at c_39); rw [hl1]; split <;> first | rfl | omega) _ ⟨rfl, rfl, rfl, trivial⟩
          · refine z_aload_n K dX4_findPath_29 rfl rfl rfl ?_
            refine z_iload_n K dX4_findPath_30 rfl rfl ?_
            refine t_callp K (tw_endOf (by omega)) cV_X4_164_X4 rfl rfl (by decide) (Nat.le_of_ble_eq_true rfl) (Nat.le_refl _) (Nat.le_refl _) dX4_findPath_31 ?_
            rw [f12, f0]
            refine z_aload_n K dX4_findPath_34 rfl rfl rfl ?_
            refine z_iload_n K dX4_findPath_35 rfl rfl ?_
            refine t_callp K (tw_endOf (by omega)) cV_X4_164_X4 rfl rfl (by decide) (Nat.le_of_ble_eq_true rfl) (Nat.le_refl _) (Nat.le_refl _) dX4_findPath_36 ?_
            rw [f12, f0]
            refine j_icmp_le (tgt := 46) K dX4_findPath_39 rfl (by omega) (by omega) (fun c_39 => ?_) (fun c_39 => ?_)
            · refine z_iload_n K dX4_findPath_46 rfl rfl ?_
              refine z_istore_n K dX4_findPath_47 rfl (by decide) rfl ?_
              refine j_iinc K dX4_findPath_48 rfl (by decide) rfl ?_
              refine z_goto (tgt := 14) K dX4_findPath_51 rfl ?_
              exact fin _ (by (try rw [Int.toNat_natCast] at c_39); rw [hl1]; split <;> first | rfl | omega) _ ⟨rfl, rfl, rfl, trivial⟩
            · refine z_iload_n K dX4_findPath_42 rfl rfl ?_
              refine z_goto (tgt := 47) K dX4_findPath_43 rfl ?_
              refine z_istore_n K dX4_findPath_47 rfl (by decide) rfl ?_
              refine j_iinc K dX4_findPath_48 rfl (by decide) rfl ?_
              refine z_goto (tgt := 14) K dX4_findPath_51 rfl ?_
              exact fin _ (by (try rw [Int.toNat_natCast] at c_39); rw [hl1]; split <;> first | rfl | omega) _ ⟨rfl, rfl, rfl, trivial⟩
    refine zW.cut he ?_
    refine j_iconst K dX4_findPath_10 ?_
    refine z_istore_n K dX4_findPath_11 rfl (by decide) rfl ?_
    refine j_iconst K dX4_findPath_12 ?_
    refine z_istore_n K dX4_findPath_13 rfl (by decide) rfl ?_
    exact last (w 0 1).toNat 0 (by omega) _ ⟨rfl, rfl, rfl, trivial⟩
  refine z_aload_n K dX4_findPath_0 rfl rfl rfl ?_
  refine t_calli K (tw_findTimes hbb hhb hA hO ho hd hu) cV_X4_181_X4 rfl rfl (by decide) (Nat.le_of_ble_eq_true rfl) (Nat.le_refl _) (Nat.le_refl _) dX4_findPath_1 ?_
  rintro _ _ ⟨rd, st, rfl, hT, rfl⟩
  refine z_istore_n K dX4_findPath_4 rfl (by decide) rfl ?_
  refine z_aload_n K dX4_findPath_5 rfl rfl rfl ?_
  refine j_iconst K dX4_findPath_6 ?_
  refine t_puti K fd_X4_199_0 ⟨_, rfl, Or.inl rfl⟩ (by decide) rfl rfl dX4_findPath_7 ?_
  exact main rd st hT _ ⟨rfl, trivial⟩

