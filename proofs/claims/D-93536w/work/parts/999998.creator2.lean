/-! ===== Creator: a job, all jobs ===== -/
/-- what a row keeps -/
def SIr (s : Nat → Int) : Prop := WfA s ∧ WfO s ∧ ACy s (oB 0) ∧ Mono s
theorem Mono.no {s : Nat → Int} (hA : WfA s) (hM : Mono s) {j m u f : Int} (hn : nop s j m) (hj : j < s 0) : Mono (sNO s j m u f) := by
  have h5 := hA.1.1
  have e0 : sNO s j m u f 0 = s 0 := sNO_n (by obtain ⟨a1, a2, a3, a4, a5⟩ := hn; omega)
  intro j' a c j0 j1 a0 ac c1
  rw [e0] at j1
  have hl4 := (hA.1.2 j' j0 j1).2.2.2
  have hn' := hn
  obtain ⟨b1, b2, b3, b4, b5⟩ := hn'
  by_cases e : j' = j
  · subst e
    rw [sNO_l1 hn] at c1
    have ea : sSeq (sNO s j' m u f) j' a = sSeq s j' a := sNO_sq hn j' a j0 (by omega) a0 (by omega) (by omega)
    rw [ea]
    rcases (by omega : c < sLen s j' ∨ c = sLen s j') with z | rfl
    · rw [sNO_sq hn j' c j0 (by omega) (by omega) (by omega) (by omega)]
      exact hM j' a c j0 j1 a0 ac z
    · rw [sNO_q1 hn]
      exact (hA.2.2.1 j' a j0 j1 a0 ac).1.2
  · rw [sNO_ln hn j' j0 (by omega) e] at c1
    rw [sNO_sq hn j' a j0 (by omega) a0 (by omega) (by omega), sNO_sq hn j' c j0 (by omega) (by omega) (by omega) (by omega)]
    exact hM j' a c j0 j1 a0 ac c1
theorem Mono.nj {s : Nat → Int} (hA : WfA s) (hM : Mono s) {a b c : Int} (h5 : s 0 < 5) : Mono (sNJ s a b c) := by
  have h05 := hA.1.1
  intro j x y j0 j1 x0 xy y1
  have e0 : sNJ s a b c 0 = s 0 + 1 := if_pos rfl
  rw [e0] at j1
  rcases (by omega : j < s 0 ∨ j = s 0) with z | rfl
  · have hl4 := (hA.1.2 j j0 z).2.2.2
    have el : sLen (sNJ s a b c) j = sLen s j := by unfold sLen; exact sNJ_n (by omega)
    rw [el] at y1
    have es : ∀ i : Int, 0 ≤ i → i < 4 → sSeq (sNJ s a b c) j i = sSeq s j i := fun i i0 i1 => by unfold sSeq; exact sNJ_n (by omega)
    rw [es x x0 (by omega), es y (by omega) (by omega)]
    exact hM j x y j0 z x0 xy y1
  · have el : sLen (sNJ s a b c) (s 0) = 0 := by
      unfold sLen sNJ
      rw [if_neg (by omega), if_pos rfl]
    rw [el] at y1
    omega
theorem opOk.nop {s : Nat → Int} (hA : WfA s) (hO : WfO s) {j m u f : Int} (hj : 0 ≤ j ∧ j < s 0) (h : opOk s j m u f) : nop s j m := by
  have hl := (hA.1.2 j hj.1 hj.2).2.2.2
  have h05 := hA.1.1
  have h4 : sLen s j < 4 := by have := h.2.2.1; omega
  exact ⟨⟨hA.2.1.1.1, room_op hA hj h4⟩, ⟨hj.1, by omega⟩, h.1, ⟨hl.1, h4⟩, ⟨(hO m h.1.1 h.1.2).1.1, room_on hA hO hj h.1 h.no⟩⟩
theorem SIr.no {s : Nat → Int} (h : SIr s) {j m u f : Int} (hj : 0 ≤ j ∧ j < s 0) (ho : opOk s j m u f) : SIr (sNO s j m u f) := by
  obtain ⟨hA, hO, hC, hM⟩ := h
  have hn := ho.nop hA hO hj
  have h4 := hn.2.2.2.1.2
  exact ⟨sNO_A hA hO hj ho.1 ho.2.1.1 ho.2.1.2 h4 ho.no, sNO_O hA hO hj ho.1 ho.2.1.1 ho.2.1.2 h4 ho.no, sNO_C hA hO hj ho.1 ho.2.1.1 ho.2.1.2 h4 ho.no hC, hM.no hA hn hj.2⟩
theorem SIr.nj {s : Nat → Int} (h : SIr s) {a b c : Int} (h5 : s 0 < 5) (hv : isJV a b c) : SIr (sNJ s a b c) := by
  obtain ⟨hA, hO, hC, hM⟩ := h
  obtain ⟨h1, h2, h3⟩ := sNJ_W hA hO h5 hv.1 hv.2.1 hv.2.2
  exact ⟨h1, h2, h3 _ hC, hM.nj hA h5⟩
/-- the operations of a job are made, one after another -/
noncomputable def crO (j : Int) (o : Nat → Int × Int × Int) : Nat → Nat → (Nat → Int) → (Nat → Int) ⊕ Nat
  | 0, _, s => .inl s
  | r + 1, i, s => if bP (opOk s j (o i).1 (o i).2.1 (o i).2.2) = 1 then crO j o r (i + 1) (sNO s j (o i).1 (o i).2.1 (o i).2.2) else .inr i
/-- a job told is made, or: why not, which operation -/
noncomputable def crJ (s : Nat → Int) (w : tTJ) : (Nat → Int) ⊕ (Int × Int) :=
  if s 0 = 5 then .inr (1, 0) else if ¬ isJV (w.1 0) (w.1 1) (w.1 2) then .inr (2, 0) else
  match crO (s 0) w.2.2 w.2.1 0 (sNJ s (w.1 0) (w.1 1) (w.1 2)) with
  | .inl s' => .inl s'
  | .inr i => .inr (3, i)
/-- all jobs told -/
noncomputable def crA (J : Nat → tTJ) : Nat → Nat → (Nat → Int) → (Nat → Int) ⊕ (Nat × Int × Int)
  | 0, _, s => .inl s
  | r + 1, x, s => match crJ s (J x) with
    | .inl s' => crA J r (x + 1) s'
    | .inr e => .inr (x, e.1, e.2)
/-- the cells of a job told -/
def TJ (h : zH) (B : Nat) (w : tTJ) : Prop := h B = some (oTo (B + 1) (B + 2)) ∧ h (B + 1) = some (aI 3 w.1) ∧ (∃ (c : Int) (a K : Nat), h (B + 2) = some (oL c a w.2.1) ∧ h a = some (aR K w.2.1 fun i => B + 6 + i) ∧ w.2.1 ≤ K ∧ K ≤ 1000 ∧ B + 2 < a ∧ a < B + 6) ∧ ∀ i, i < w.2.1 → h (B + 6 + i) = some (aI 3 (row3 (w.2.2 i).1 (w.2.2 i).2.1 (w.2.2 i).2.2))
theorem TJ.ext {h h' : zH} {B : Nat} {w : tTJ} (hT : TJ h B w) (hk : w.2.1 ≤ 20) (e : ∀ m, B ≤ m → m < B + 30 → h' m = h m) : TJ h' B w := by
  obtain ⟨a1, a2, ⟨c, a, K, b1, b2, b3, b4, b5, b6⟩, a4⟩ := hT
  exact ⟨by rw [e _ (by omega) (by omega)]; exact a1, by rw [e _ (by omega) (by omega)]; exact a2, ⟨c, a, K, by rw [e _ (by omega) (by omega)]; exact b1, by rw [e _ (by omega) (by omega)]; exact b2, b3, b4, b5, b6⟩, fun i hi => by rw [e _ (by omega) (by omega)]; exact a4 i hi⟩
/-- the numbers told are in range -/
def tOk (w : tTJ) : Prop := (∀ i, i < 3 → 0 ≤ w.1 i ∧ w.1 i ≤ 999) ∧ (1 ≤ w.2.1 ∧ w.2.1 ≤ 20) ∧ ∀ i, i < w.2.1 → (0 ≤ (w.2.2 i).1 ∧ (w.2.2 i).1 ≤ 9) ∧ (0 ≤ (w.2.2 i).2.1 ∧ (w.2.2 i).2.1 ≤ 999) ∧ 0 ≤ (w.2.2 i).2.2 ∧ (w.2.2 i).2.2 ≤ 9
/-- what the making of jobs leaves of a world -/
def crS (u u' : tW) : Prop := (∀ q, q ≠ 0 → q ≠ 6 → u' q = u q) ∧ (∀ i, 142 ≤ i → i < 179 → u' 0 i = u 0 i) ∧ SIr (u' 0)
theorem crS.tr {u u' u'' : tW} (h : crS u u') (k : crS u' u'') : crS u u'' := ⟨fun q a b => (k.1 q a b).trans (h.1 q a b), fun i a b => (k.2.1 i a b).trans (h.2.1 i a b), k.2.2⟩
theorem crS.no {u : tW} {j m d f : Int} (h : SIr (u 0)) (hj : 0 ≤ j ∧ j < u 0 0) (ho : opOk (u 0) j m d f) : crS u (wNO u j.toNat m.toNat d f) ∧ wNO u j.toNat m.toNat d f 0 = sNO (u 0) j m d f := by
  have e : wNO u j.toNat m.toNat d f 0 = sNO (u 0) j m d f := by
    rw [wNO_0, show ((j.toNat : Nat) : Int) = j by omega, show ((m.toNat : Nat) : Int) = m by have := ho.1; omega]
  obtain ⟨hA, hO, hC, hM⟩ := id h
  have hn := ho.nop hA hO hj
  refine ⟨⟨fun q a b => wNO_f ⟨a, b⟩, fun i a b => ?_, ?_⟩, e⟩
  · rw [e]
    have := sNO_c (u := d) (f := f) hn (i : Int) (by omega) (by omega)
    rw [Int.toNat_natCast] at this
    exact this
  · rw [e]; exact h.no hj ho
theorem crS.nj {u : tW} {k : Nat} {r d w : Int} (h : SIr (u 0)) (hk : u 0 0 = k) (h5 : k < 5) (hv : isJV r d w) : crS u (wNJ u k r d w) ∧ wNJ u k r d w 0 = sNJ (u 0) r d w := by
  refine ⟨⟨fun q a b => wNJ_f ⟨a, b⟩, fun i a b => ?_, ?_⟩, wNJ_0⟩
  · rw [wNJ_0]
    exact sNJ_n (by omega)
  · rw [wNJ_0]; exact h.nj (by omega) hv
theorem sNO_0 {s : Nat → Int} {j m u f : Int} (hn : nop s j m) : sNO s j m u f 0 = s 0 := sNO_n (by obtain ⟨a1, a2, a3, a4, a5⟩ := hn; omega)
/-- a bad job stands at M -/
def BdJ (h h' : zH) (b N M : Nat) (c i : Int) : Prop := N ≤ M ∧ (∃ P : Nat, h' M = some (f8 16 h (.ref P) c) ∧ ((c ≠ 3 ∧ P = M) ∨ (c = 3 ∧ N ≤ P ∧ P < M ∧ h' P = some (f7 h (.ref P) (100 + i))))) ∧ zTop h' (M + 1) ∧ ∀ m, m < N → (m < b ∨ b + 72 ≤ m) → h' m = h m
section XC2
variable {b C N B : Nat} {u : tW} {g : zH} {w : tTJ}
theorem sH_tj {u' : tW} (hT : TJ g B w) (hk : w.2.1 ≤ 20) (hB : B + 30 ≤ b) : TJ (sH b u' g) B w := hT.ext hk fun m h1 h2 => sH_out (by omega)
theorem sH_top {u' : tW} (hT : zTop g N) (hN : b + 72 ≤ N) : zTop (sH b u' g) N := fun m hm => (sH_out (by omega)).trans (hT m hm)
theorem x16_c2 (hb : 1000 ≤ b) (hC : g C = some (oCr b)) (hCb : C < b ∨ b + 72 ≤ C) (hT : TJ g B w) (hB : B + 30 ≤ b) (hw : tOk w) (hI : SIr (u 0)) (hAm : Am g) (hTp : zTop g N) (hbN : b + 72 ≤ N) :
    zMet yX16_create_2 (wsW_ yX16_create_2 cX16_create_2 5 none [(90, 130, 133, 25)]) 10 [.ref C, .ref B] (sH b u g) (fun z h' => match crJ (u 0) w with | .inl s => ∃ u', z = .inl none ∧ h' = sH b u' g ∧ crS u u' ∧ u' 0 = s | .inr e => ∃ M, z = .inr M ∧ BdJ (sH b u g) h' b N M e.1 e.2) 100 1400 := by
  obtain ⟨Q, hQ⟩ : ∃ Q : zO → zH → Prop, Q = (fun z h' => match crJ (u 0) w with | .inl s => ∃ u', z = .inl none ∧ h' = sH b u' g ∧ crS u u' ∧ u' 0 = s | .inr e => ∃ M, z = .inr M ∧ BdJ (sH b u g) h' b N M e.1 e.2) := ⟨_, rfl⟩
  refine zMet.weaken (Q := Q) ?_ (fun z h' q => by rw [hQ] at q; exact q)
  have hY : ∀ s u', crJ (u 0) w = .inl s → crS u u' → u' 0 = s → Q (.inl none) (sH b u' g) := fun s u' e h1 h2 => by rw [hQ]; dsimp only; rw [e]; exact ⟨u', rfl, rfl, h1, h2⟩
  have hX : ∀ c i M h', crJ (u 0) w = .inr (c, i) → BdJ (sH b u g) h' b N M c i → Q (.inr M) h' := fun c i M h' e h1 => by rw [hQ]; dsimp only; rw [e]; exact ⟨M, rfl, h1⟩
  clear hQ
  obtain ⟨hA, hO, hAC, hM⟩ := id hI
  have h05 := hA.1.1
  have hc1 := fun u' => (sH_out (u := u') hCb).trans hC
  have t1 := fun u' => sH_tj (u' := u') hT hw.2.1.2 hB
  have tp := fun u' => sH_top (u' := u') hTp hbN
  obtain ⟨k, hk⟩ : ∃ k : Nat, u 0 0 = k := ⟨(u 0 0).toNat, by omega⟩
  have hv := hw.1
  have v0 := hv 0 (by omega)
  have v1 := hv 1 (by omega)
  have v2 := hv 2 (by omega)
  have kv := x1_areJobValues (h := sH b u g) (r := w.1 0) (d := w.1 1) (w := w.1 2) (by omega) (by omega) (by omega)
  have kb := fun c => x17_init (h := zup (sH b u g) N (.inr (16, [.null, .null, .null, .null, .null, .int 0, .int 0]))) (q := N) (k := c) ((hAm.sh hb).up (by omega)) (zup_at _ _ _) (by omega)
  have bad1 : ∀ c, c ≠ 3 → BdJ (sH b u g) (zup (zup (sH b u g) N (.inr (16, [.null, .null, .null, .null, .null, .int 0, .int 0]))) N (f8 16 (zup (sH b u g) N (.inr (16, [.null, .null, .null, .null, .null, .int 0, .int 0]))) (.ref N) c)) b N N c 0 := fun c hc => by
    refine ⟨Nat.le_refl _, ⟨N, ?_, Or.inl ⟨hc, rfl⟩⟩, fun m hm => ?_, fun m hm hr => ?_⟩
    · rw [zup_at]; unfold f8; rw [thL_up (by omega)]
    · rw [zup_ne (by omega), zup_ne (by omega)]; exact tp u m (by omega)
    · rw [zup_ne (by omega), zup_ne (by omega)]
  refine zMet.ofH (by decide) (Nat.le_of_ble_eq_true rfl) fun X K => ?_
  by_cases c5 : u 0 0 = 5
  · have ej : crJ (u 0) w = .inr (1, 0) := if_pos c5
    have hx := hX 1 0 _ _ ej (bad1 1 (by decide))
    have kb1 := kb 1
    refine z_aload_n K dX16_create_2_0 rfl rfl rfl ?_
    refine z_get K fd_X16_9_15 (hc1 _) rfl dX16_create_2_1 ?_
    refine z_get K fd_X16_34_2 (sH_shop) rfl dX16_create_2_4 ?_
    refine z_callV K (jl_size sH_jobs) cV_X16_38_J2 (sH_jobs) rfl rfl rfl (by omega) (by omega) (by omega) (Nat.le_of_ble_eq_true rfl) dX16_create_2_7 zrX (zrK ?_)
    refine j_iconst K dX16_create_2_10 ?_
    refine j_icmp_ne (tgt := 23) K dX16_create_2_11 rfl (by omega) (by omega) (fun c_11 => ?_) (fun c_11 => ?_)
    · exact absurd c5 c_11
    · refine z_new K (N) nw_X16_44 (tp u N (Nat.le_refl _)) (by omega) (by omega) (by omega) dX16_create_2_14 ?_
      refine z_dup K dX16_create_2_17 rfl ?_
      refine j_iconst K dX16_create_2_18 ?_
      refine z_cI (fs := []) K (kb1) cI_X16_46 rfl rfl (by omega) (by omega) (by omega) (Nat.le_of_ble_eq_true rfl) dX16_create_2_19 zvX (zvK ?_)
      refine z_athrow K (zup_at _ _ _) rfl dX16_create_2_22 ?_
      exact z_out K rfl (by omega) (by omega) hx
  by_cases c6 : isJV (w.1 0) (w.1 1) (w.1 2)
  rotate_left
  · have ej : crJ (u 0) w = .inr (2, 0) := (if_neg c5).trans (if_pos c6)
    have hx := hX 2 0 _ _ ej (bad1 2 (by decide))
    have kb2 := kb 2
    rw [show bI (isJV (w.1 0) (w.1 1) (w.1 2)) = 0 from if_neg c6] at kv
    refine z_aload_n K dX16_create_2_0 rfl rfl rfl ?_
    refine z_get K fd_X16_9_15 (hc1 _) rfl dX16_create_2_1 ?_
    refine z_get K fd_X16_34_2 (sH_shop) rfl dX16_create_2_4 ?_
    refine z_callV K (jl_size sH_jobs) cV_X16_38_J2 (sH_jobs) rfl rfl rfl (by omega) (by omega) (by omega) (Nat.le_of_ble_eq_true rfl) dX16_create_2_7 zrX (zrK ?_)
    refine j_iconst K dX16_create_2_10 ?_
    refine j_icmp_ne (tgt := 23) K dX16_create_2_11 rfl (by omega) (by omega) (fun c_11 => ?_) (fun c_11 => ?_)
    · refine z_aload_n K dX16_create_2_23 rfl rfl rfl ?_
      refine z_get K fd_X16_47_13 ((t1 u).1) rfl dX16_create_2_24 ?_
      refine z_astore_n K dX16_create_2_27 rfl rfl (by decide) rfl ?_
      refine z_aload_n K dX16_create_2_28 rfl rfl rfl ?_
      refine j_iconst K dX16_create_2_29 ?_
      refine j_ild K ((t1 u).2.1) (by omega) (by omega) dX16_create_2_30 ?_
      refine z_aload_n K dX16_create_2_31 rfl rfl rfl ?_
      refine j_iconst K dX16_create_2_32 ?_
      refine j_ild K ((t1 u).2.1) (by omega) (by omega) dX16_create_2_33 ?_
      refine z_aload_n K dX16_create_2_34 rfl rfl rfl ?_
      refine j_iconst K dX16_create_2_35 ?_
      refine j_ild K ((t1 u).2.1) (by omega) (by omega) dX16_create_2_36 ?_
      rw [show w.1 (0 : Int).toNat = w.1 0 from rfl, show w.1 (1 : Int).toNat = w.1 1 from rfl, show w.1 (2 : Int).toNat = w.1 2 from rfl]
      refine z_cSN (fs := []) K (kv) cS_X16_53 rfl rfl (by omega) (by omega) (by omega) (Nat.le_of_ble_eq_true rfl) dX16_create_2_37 zrX (zrK ?_)
      refine j_if_ne (tgt := 52) K dX16_create_2_40 rfl (by omega) (fun c_40 => ?_) (fun c_40 => ?_)
      · exact absurd rfl c_40
      · refine z_new K (N) nw_X16_44 (tp u N (Nat.le_refl _)) (by omega) (by omega) (by omega) dX16_create_2_43 ?_
        refine z_dup K dX16_create_2_46 rfl ?_
        refine j_iconst K dX16_create_2_47 ?_
        refine z_cI (fs := []) K (kb2) cI_X16_46 rfl rfl (by omega) (by omega) (by omega) (Nat.le_of_ble_eq_true rfl) dX16_create_2_48 zvX (zvK ?_)
        refine z_athrow K (zup_at _ _ _) rfl dX16_create_2_51 ?_
        exact z_out K rfl (by omega) (by omega) hx
    · exact absurd c_11 c5
  rw [show bI (isJV (w.1 0) (w.1 1) (w.1 2)) = 1 from if_pos c6] at kv
  have hk5 : k < 5 := by omega
  have loop : ∀ (r i : Nat) (u' : tW), r + i = w.2.1 → crS u u' → u' 0 0 = (k : Int) + 1 → (match crO k w.2.2 r i (u' 0) with | .inl s => crJ (u 0) w = .inl s | .inr x => crJ (u 0) w = .inr (3, x)) → ∀ env, zsub env [(0, .ref C), (1, .ref B), (3, .int (iI k)), (4, .int (iI i))] → zW X Q (sH b u' g) (4 + 3 * i) (30 + 50 * i) 93 env [] := by
    intro r
    induction r with
    | zero =>
      intro i u' hi hs h0 he env hev
      refine zW.cut hev ?_
      have hfin := hY _ u' he hs rfl
      obtain ⟨cc9, a9, K9, l1, l2, l3, l4, l5, l6⟩ := (t1 u').2.2.1
      have ksz := jl_size l1
      have hi20 := hw.2.1
      refine z_iload K dX16_create_2_93 rfl ?_
      refine z_aload_n K dX16_create_2_95 rfl rfl rfl ?_
      refine z_get K fd_X16_65_13 ((t1 u').1) rfl dX16_create_2_96 ?_
      refine z_callV K (ksz) cV_X16_38_J2 (l1) rfl rfl rfl (by omega) (by omega) (by omega) (Nat.le_of_ble_eq_true rfl) dX16_create_2_99 zrX (zrK ?_)
      refine j_icmp_ge (tgt := 130) K dX16_create_2_102 rfl (by omega) (by omega) (fun c_102 => ?_) (fun c_102 => ?_)
      · refine z_goto (tgt := 145) K dX16_create_2_130 rfl ?_
        exact z_vret K (by omega) (by omega) (hfin) dX16_create_2_145
      · exact absurd c_102 (by omega)
    | succ r ih =>
      intro i u' hi hs h0 he env hev
      refine zW.cut hev ?_
      obtain ⟨cc9, a9, K9, l1, l2, l3, l4, l5, l6⟩ := (t1 u').2.2.1
      have ksz := jl_size l1
      have hi20 := hw.2.1
      have kg : zG2 (B + 2) (i : Int) (sH b u' g) (B + 6 + i) := jl_get l1 l2 l3 (by omega) (by omega) (by omega) rfl
      have hoi := (t1 u').2.2.2 i (by omega)
      obtain ⟨r1, r2, r3⟩ := hw.2.2 i (by omega)
      have k3 := x16_c3 (b := b) (C := C) (N := N) (T := B + 6 + i) (u := u') (g := g) (j := k) (i := i) (m := (w.2.2 i).1) (d := (w.2.2 i).2.1) (f := (w.2.2 i).2.2) hb (hc1 u') hoi hs.2.2.1 hs.2.2.2.1 hAm (by omega) (by omega) r1 r2 r3 (tp u' N (Nat.le_refl _)) (by omega)
      have el : ∀ c fs, thL (sH b u' g) c fs = thL (sH b u g) c fs := fun c fs => thL_ext (fun m hm => (sH_out (by omega)).trans (sH_out (by omega)).symm)
      by_cases c7 : opOk (u' 0) k (w.2.2 i).1 (w.2.2 i).2.1 (w.2.2 i).2.2
      · obtain ⟨s1, s2⟩ := crS.no hs.2.2 ⟨by omega, by omega⟩ c7
        rw [show crO k w.2.2 (r + 1) i (u' 0) = crO k w.2.2 r (i + 1) (sNO (u' 0) k (w.2.2 i).1 (w.2.2 i).2.1 (w.2.2 i).2.2) from if_pos (bP_t c7), ← s2] at he
        have nx := ih (i + 1) _ (by omega) (hs.tr s1) (by rw [s2, sNO_0 (c7.nop hs.2.2.1 hs.2.2.2.1 ⟨by omega, by omega⟩)]; exact h0) he
        refine z_iload K dX16_create_2_93 rfl ?_
        refine z_aload_n K dX16_create_2_95 rfl rfl rfl ?_
        refine z_get K fd_X16_65_13 ((t1 u').1) rfl dX16_create_2_96 ?_
        refine z_callV K (ksz) cV_X16_38_J2 (l1) rfl rfl rfl (by omega) (by omega) (by omega) (Nat.le_of_ble_eq_true rfl) dX16_create_2_99 zrX (zrK ?_)
        refine j_icmp_ge (tgt := 130) K dX16_create_2_102 rfl (by omega) (by omega) (fun c_102 => ?_) (fun c_102 => ?_)
        · exact absurd c_102 (by omega)
        · refine z_aload_n K dX16_create_2_105 rfl rfl rfl ?_
          refine z_iload_n K dX16_create_2_106 rfl rfl ?_
          refine z_iload K dX16_create_2_107 rfl ?_
          refine z_aload_n K dX16_create_2_109 rfl rfl rfl ?_
          refine z_get K fd_X16_65_13 ((t1 u').1) rfl dX16_create_2_110 ?_
          refine z_iload K dX16_create_2_113 rfl ?_
          refine z_callV K (kg) cV_X16_68_J2 (l1) rfl rfl rfl (by omega) (by omega) (by omega) (Nat.le_of_ble_eq_true rfl) dX16_create_2_115 zrX (zrK ?_)
          refine z_castA K (hoi) (by simp) q1718 dX16_create_2_118 ?_
          refine z_callV K k3 cV_X16_73_X16 (hc1 u') rfl rfl rfl (by omega) (by omega) (by omega) (Nat.le_of_ble_eq_true rfl) dX16_create_2_121 (fun q' h1 hq' => by rcases hq' with ⟨-, z, -⟩ | ⟨z, -⟩; cases z; exact absurd c7 z) (fun v h1 hq' => ?_)
          obtain ⟨-, z1, rfl⟩ := hq'.resolve_right (fun z => z.1 c7)
          cases z1
          refine j_iinc K dX16_create_2_124 rfl (by decide) rfl ?_
          refine z_goto (tgt := 93) K dX16_create_2_127 rfl ?_
          exact zW.widen (by omega) (by omega) (nx _ ⟨rfl, rfl, rfl, rfl, trivial⟩)
      · rw [show crO k w.2.2 (r + 1) i (u' 0) = .inr i from if_neg (by rw [bP_f c7]; decide)] at he
        have kb3 := x17_init2 (h := zup (zup (sH b u' g) N (f7 (sH b u' g) (.ref N) (100 + (i : Int)))) (N + 1) (.inr (16, [.null, .null, .null, .null, .null, .int 0, .int 0]))) (q := N + 1) (f := N) (((hAm.sh hb).up (by omega)).up (by omega)) (zup_at _ _ _) (by omega)
        have hx := hX 3 i (N + 1) (zup (zup (zup (sH b u' g) N (f7 (sH b u' g) (.ref N) (100 + (i : Int)))) (N + 1) (.inr (16, [.null, .null, .null, .null, .null, .int 0, .int 0]))) (N + 1) (f8 16 (zup (zup (sH b u' g) N (f7 (sH b u' g) (.ref N) (100 + (i : Int)))) (N + 1) (.inr (16, [.null, .null, .null, .null, .null, .int 0, .int 0]))) (.ref N) 3)) he (by
          refine ⟨by omega, ⟨N, ?_, Or.inr ⟨rfl, Nat.le_refl _, Nat.lt_succ_self _, ?_⟩⟩, fun m hm => ?_, fun m hm hr => ?_⟩
          · rw [zup_at]; unfold f8; rw [thL_up (by omega), thL_up (by omega), el]
          · rw [zup_ne (by omega), zup_ne (by omega), zup_at]; unfold f7; rw [el]
          · rw [zup_ne (by omega), zup_ne (by omega), zup_ne (by omega)]; exact tp u' m (by omega)
          · rw [zup_ne (by omega), zup_ne (by omega), zup_ne (by omega), sH_out hr, sH_out hr])
        have hfr : zup (sH b u' g) N (f7 (sH b u' g) (.ref N) (100 + (i : Int))) (N + 1) = none := (zup_ne (by omega)).trans (tp u' _ (by omega))
        refine z_iload K dX16_create_2_93 rfl ?_
        refine z_aload_n K dX16_create_2_95 rfl rfl rfl ?_
        refine z_get K fd_X16_65_13 ((t1 u').1) rfl dX16_create_2_96 ?_
        refine z_callV K (ksz) cV_X16_38_J2 (l1) rfl rfl rfl (by omega) (by omega) (by omega) (Nat.le_of_ble_eq_true rfl) dX16_create_2_99 zrX (zrK ?_)
        refine j_icmp_ge (tgt := 130) K dX16_create_2_102 rfl (by omega) (by omega) (fun c_102 => ?_) (fun c_102 => ?_)
        · exact absurd c_102 (by omega)
        · refine z_aload_n K dX16_create_2_105 rfl rfl rfl ?_
          refine z_iload_n K dX16_create_2_106 rfl rfl ?_
          refine z_iload K dX16_create_2_107 rfl ?_
          refine z_aload_n K dX16_create_2_109 rfl rfl rfl ?_
          refine z_get K fd_X16_65_13 ((t1 u').1) rfl dX16_create_2_110 ?_
          refine z_iload K dX16_create_2_113 rfl ?_
          refine z_callV K (kg) cV_X16_68_J2 (l1) rfl rfl rfl (by omega) (by omega) (by omega) (Nat.le_of_ble_eq_true rfl) dX16_create_2_115 zrX (zrK ?_)
          refine z_castA K (hoi) (by simp) q1718 dX16_create_2_118 ?_
          refine z_callV K k3 cV_X16_73_X16 (hc1 u') rfl rfl rfl (by omega) (by omega) (by omega) (Nat.le_of_ble_eq_true rfl) dX16_create_2_121 (fun q' h1 hq' => ?_) (fun v h1 hq' => by rcases hq' with ⟨z, -⟩ | ⟨-, z, -⟩; exact absurd z c7; cases z)
          obtain ⟨-, z1, rfl⟩ := hq'.resolve_left (fun z => c7 z.1)
          cases z1
          refine z_catch1 K (zup_at _ _ _) rfl (by omega) (by decide) q1698 q1082 ?_
          refine z_astore K dX16_create_2_133 rfl (by decide) rfl ?_
          refine z_new K (N + 1) nw_X16_44 hfr (by omega) (by omega) (by omega) dX16_create_2_135 ?_
          refine z_dup K dX16_create_2_138 rfl ?_
          refine z_aload K dX16_create_2_139 rfl rfl ?_
          refine z_cI (fs := []) K (kb3) cI_X16_77 rfl rfl (by omega) (by omega) (by omega) (Nat.le_of_ble_eq_true rfl) dX16_create_2_141 zvX (zvK ?_)
          refine z_athrow K (zup_at _ _ _) rfl dX16_create_2_144 ?_
          exact z_out K rfl (by omega) (by omega) hx
  obtain ⟨sj, ej⟩ := crS.nj (r := w.1 0) (d := w.1 1) (w := w.1 2) hI hk hk5 c6
  have st := loop w.2.1 0 (wNJ u k (w.1 0) (w.1 1) (w.1 2)) (by omega) sj (by rw [ej]; show u 0 0 + 1 = _; omega) (by
    rw [ej]
    have e9 : crJ (u 0) w = match crO (u 0 0) w.2.2 w.2.1 0 (sNJ (u 0) (w.1 0) (w.1 1) (w.1 2)) with | .inl s' => .inl s' | .inr i => .inr (3, (i : Int)) := (if_neg c5).trans (if_neg (not_not_intro c6))
    rw [e9, hk]
    cases crO k w.2.2 w.2.1 0 (sNJ (u 0) (w.1 0) (w.1 1) (w.1 2)) <;> rfl)
  have ni := nj_init (r := w.1 0) (d := w.1 1) (w := w.1 2) (g := g) hb hAm hk hk5
  have na := nj_add (r := w.1 0) (d := w.1 1) (w := w.1 2) (g := g) hb hAm hk hk5
  have fr := nj_free (b := b) (g := g) hk hk5
  have vl : ∀ c : zC, zup (sH b u g) (b + 32 + k) c (B + 1) = some (aI 3 w.1) := fun c => (zup_ne (by omega)).trans (t1 u).2.1
  refine z_aload_n K dX16_create_2_0 rfl rfl rfl ?_
  refine z_get K fd_X16_9_15 (hc1 _) rfl dX16_create_2_1 ?_
  refine z_get K fd_X16_34_2 (sH_shop) rfl dX16_create_2_4 ?_
  refine z_callV K (jl_size sH_jobs) cV_X16_38_J2 (sH_jobs) rfl rfl rfl (by omega) (by omega) (by omega) (Nat.le_of_ble_eq_true rfl) dX16_create_2_7 zrX (zrK ?_)
  refine j_iconst K dX16_create_2_10 ?_
  refine j_icmp_ne (tgt := 23) K dX16_create_2_11 rfl (by omega) (by omega) (fun c_11 => ?_) (fun c_11 => ?_)
  · refine z_aload_n K dX16_create_2_23 rfl rfl rfl ?_
    refine z_get K fd_X16_47_13 ((t1 u).1) rfl dX16_create_2_24 ?_
    refine z_astore_n K dX16_create_2_27 rfl rfl (by decide) rfl ?_
    refine z_aload_n K dX16_create_2_28 rfl rfl rfl ?_
    refine j_iconst K dX16_create_2_29 ?_
    refine j_ild K (by first | exact (t1 u).2.1 | exact vl _) (by omega) (by omega) dX16_create_2_30 ?_
    refine z_aload_n K dX16_create_2_31 rfl rfl rfl ?_
    refine j_iconst K dX16_create_2_32 ?_
    refine j_ild K (by first | exact (t1 u).2.1 | exact vl _) (by omega) (by omega) dX16_create_2_33 ?_
    refine z_aload_n K dX16_create_2_34 rfl rfl rfl ?_
    refine j_iconst K dX16_create_2_35 ?_
    refine j_ild K (by first | exact (t1 u).2.1 | exact vl _) (by omega) (by omega) dX16_create_2_36 ?_
    rw [show w.1 (0 : Int).toNat = w.1 0 from rfl, show w.1 (1 : Int).toNat = w.1 1 from rfl, show w.1 (2 : Int).toNat = w.1 2 from rfl]
    refine z_cSN (fs := []) K (kv) cS_X16_53 rfl rfl (by omega) (by omega) (by omega) (Nat.le_of_ble_eq_true rfl) dX16_create_2_37 zrX (zrK ?_)
    refine j_if_ne (tgt := 52) K dX16_create_2_40 rfl (by omega) (fun c_40 => ?_) (fun c_40 => ?_)
    · refine z_aload_n K dX16_create_2_52 rfl rfl rfl ?_
      refine z_get K fd_X16_9_15 (hc1 _) rfl dX16_create_2_53 ?_
      refine z_get K fd_X16_34_2 (sH_shop) rfl dX16_create_2_56 ?_
      refine z_callV K (jl_size sH_jobs) cV_X16_38_J2 (sH_jobs) rfl rfl rfl (by omega) (by omega) (by omega) (Nat.le_of_ble_eq_true rfl) dX16_create_2_59 zrX (zrK ?_)
      rw [hk]
      refine z_istore_n K dX16_create_2_62 rfl (by decide) rfl ?_
      refine z_aload_n K dX16_create_2_63 rfl rfl rfl ?_
      refine z_get K fd_X16_9_15 (hc1 _) rfl dX16_create_2_64 ?_
      refine z_get K fd_X16_34_2 (sH_shop) rfl dX16_create_2_67 ?_
      refine z_new K (b + 32 + k) nw_X16_56 fr (by omega) (by omega) (by omega) dX16_create_2_70 ?_
      refine z_dup K dX16_create_2_73 rfl ?_
      refine z_aload_n K dX16_create_2_74 rfl rfl rfl ?_
      refine j_iconst K dX16_create_2_75 ?_
      refine j_ild K (by first | exact (t1 u).2.1 | exact vl _) (by omega) (by omega) dX16_create_2_76 ?_
      refine z_aload_n K dX16_create_2_77 rfl rfl rfl ?_
      refine j_iconst K dX16_create_2_78 ?_
      refine j_ild K (by first | exact (t1 u).2.1 | exact vl _) (by omega) (by omega) dX16_create_2_79 ?_
      refine z_aload_n K dX16_create_2_80 rfl rfl rfl ?_
      refine j_iconst K dX16_create_2_81 ?_
      refine j_ild K (by first | exact (t1 u).2.1 | exact vl _) (by omega) (by omega) dX16_create_2_82 ?_
      rw [show w.1 (0 : Int).toNat = w.1 0 from rfl, show w.1 (1 : Int).toNat = w.1 1 from rfl, show w.1 (2 : Int).toNat = w.1 2 from rfl]
      refine z_cI (fs := []) K (ni) cI_X16_58 rfl rfl (by omega) (by omega) (by omega) (Nat.le_of_ble_eq_true rfl) dX16_create_2_83 zvX (zvK ?_)
      refine z_callV K na cV_X16_61_J2 nj_l rfl rfl rfl (by omega) (by omega) (by omega) (Nat.le_of_ble_eq_true rfl) dX16_create_2_86 zrX (zrK ?_)
      refine z_pop K dX16_create_2_89 rfl ?_
      refine j_iconst K dX16_create_2_90 ?_
      refine z_istore K dX16_create_2_91 (by decide) rfl ?_
      exact zW.widen (by omega) (by omega) (st _ ⟨rfl, rfl, rfl, rfl, trivial⟩)
    · exact absurd c_40 (by decide)
  · exact absurd c_11 c5
end XC2

