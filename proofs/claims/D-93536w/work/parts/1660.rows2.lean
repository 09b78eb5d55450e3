/-! ===== more rows of the machine of names: new cells, arrays of references, statics, casts ===== -/
theorem zbeq_ne {m n : Nat} (e : m ≠ n) : Nat.beq m n = false := by
  cases hb : Nat.beq m n with
  | false => rfl
  | true => exact absurd (Nat.eq_of_beq_eq_true hb) e
def zrup (r : zR) (nm a : Nat) : zR := fun m => cond (Nat.beq m nm) (some a) (r m)
theorem zrup_at (r : zR) (nm a : Nat) : zrup r nm a nm = some a := by simp [zrup]
theorem zrup_ne {r : zR} {nm a m : Nat} (e : m ≠ nm) : zrup r nm a m = r m := by simp [zrup, zbeq_ne e]
theorem zS.push {D : va_G} {dA : Nat → ClassId} {r : zR} {h : zH} {H H1 : Heap} (hS : zS D dA r h H) {nm : Nat} {c : zC} (hn : h nm = none) (h8 : 1000 ≤ nm) (z : H1.size = H.size + 1) (o : ∀ q, q < H.size → H1[q]? = H[q]?) (hc : zc D dA (zrup r nm H.size) c H.size H1) : zS D dA (zrup r nm H.size) (zup h nm c) H1 ∧ zsb r (zrup r nm H.size) := by
  have hr : r nm = none := (hS.1 nm).mp hn
  have hsb : zsb r (zrup r nm H.size) := fun n a => ⟨fun q => by
    by_cases e : n = nm
    · subst e; rw [hr] at q; cases q
    · rw [zrup_ne e]; exact q, fun h1 q => by rw [zrup_ne (by omega)] at q; exact q⟩
  refine ⟨⟨fun n => ?_, fun n m a h1 h2 h3 hd => ?_, fun n a h1 => ?_, fun n d a h1 h2 => ?_⟩, hsb⟩
  · by_cases e : n = nm
    · subst e
      rw [zup_at, zrup_at]
      constructor <;> (intro q; cases q)
    · rw [zup_ne e, zrup_ne e]
      exact hS.1 n
  · by_cases e1 : n = nm
    · by_cases e2 : m = nm
      · rw [e1, e2]
      · subst e1
        rw [zrup_at] at h1
        cases h1
        rw [zrup_ne e2] at h2
        exact absurd (hS.lt h2 hd) (Nat.lt_irrefl _)
    · rw [zrup_ne e1] at h1
      by_cases e2 : m = nm
      · subst e2
        rw [zrup_at] at h2
        cases h2
        exact absurd (hS.lt h1 (Or.inr (by omega))) (Nat.lt_irrefl _)
      · rw [zrup_ne e2] at h2
        exact hS.2.1 n m a h1 h2 h3 hd
  · by_cases e : n = nm
    · subst e
      rw [zrup_at] at h1
      cases h1
      exact Or.inl ⟨Or.inr (by omega), by omega⟩
    · rw [zrup_ne e] at h1
      rcases hS.2.2.1 n a h1 with q | q
      · exact Or.inl ⟨q.1, by have := q.2; omega⟩
      · exact Or.inr ⟨q.1, (zup_ne e).trans q.2⟩
  · by_cases e : n = nm
    · subst e
      rw [zup_at] at h1
      rw [zrup_at] at h2
      cases h1
      cases h2
      exact Or.inl hc
    · rw [zup_ne e] at h1
      rw [zrup_ne e] at h2
      by_cases hd : n < 3 ∨ 8 < n
      · exact (hS.2.2.2 n d a h1 h2).imp (fun q => (q.mono hsb).kept (o a (hS.lt h2 hd))) (fun q => ⟨q.1, q.2.kept (o a (hS.lt h2 hd))⟩)
      · exact Or.inl (zc.tri (hS.tri h1 h2 hd))
theorem zA.push {A : Nat → Prop} {r : zR} (h : zA A r) {nm a : Nat} (h8 : 1000 ≤ nm) (ha : A a) : zA A (zrup r nm a) := by
  refine ⟨fun n b h1 h2 => ?_, fun n b h1 hd h2 => ?_⟩
  · by_cases e : n = nm
    · subst e; rw [zrup_at] at h2; cases h2; exact ha
    · rw [zrup_ne e] at h2; exact h.1 n b h1 h2
  · rw [zrup_ne (by omega)] at h2; exact h.2 n b h1 hd h2
theorem va_S.push {A : Nat → Prop} {H0 H H1 : Heap} {locs : List Loc} (h : va_S A H0 H locs) (z : H1.size = H.size + 1) (o : ∀ q, q < H.size → H1[q]? = H[q]?) : va_S A H0 H1 locs :=
  ⟨Nat.le_trans h.1 (by omega), fun x h1 h2 => (o x (Nat.lt_of_lt_of_le h1 h.1)).trans (h.2.1 x h1 h2), h.2.2⟩
def znr (fs : List Value) : Bool := fs.all fun v => match v with
  | .ref _ => false
  | _ => true
theorem znr_self {r : zR} : ∀ {fs : List Value}, znr fs = true → zvs r fs fs
  | [], _ => rfl
  | v :: fs, h => by
    have h2 : znr fs = true := by
      simp only [znr, List.all_cons, Bool.and_eq_true] at h
      exact h.2
    refine ⟨v, fs, rfl, ?_, znr_self h2⟩
    cases v with
    | ref n => simp [znr] at h
    | _ => rfl
def zrv : Option Nat → Value
  | none => .null
  | some n => .ref n
/-- a class that can be made by the link idx of the class own: its number, its fields as they are made -/
def znw (own : String) (idx ci N : Nat) (fs : List Value) : Prop := ∃ (C : String) (T : u_T), zcl[ci]? = some (C, T, N) ∧ Jvm.Cond.classLink own idx C ∈ lw_all ∧ Jvm.Cond.instantiable C N ∈ lw_all ∧ Jvm.Cond.initialized C ∈ lw_all ∧ (∀ j, j < N → defaultValue (zfty ci j) = vp_V fs j) ∧ znr fs = true
theorem iI_nat (n : Nat) : iI (n : Int) = Int32.ofNat n := by
  unfold iI
  apply Int32.toBitVec_inj.mp
  simp
theorem iI_n0 {a : Int} (h0 : 0 ≤ a) (h1 : a ≤ 2147483647) : ¬ iI a < 0 := by
  rw [← iI_0, iI_lt (by omega) (by omega)]
  omega
section ZR2
variable {y : MethodName} {cc : ByteArray} {nL : Nat} {ret : Option FieldType} {hh : List (Nat × Nat × Nat × Nat)} {d kc ks : Nat} {X : zX} {Q : zO → zH → Prop} {h : zH} {k n pc : Nat} {env : List (Nat × Value)} {st : List Value}
theorem z_new (K : zK y cc nL ret hh d kc ks X) {idx ci N : Nat} {fs : List Value} (nm : Nat) (w : znw y.cls idx ci N fs) (hf : h nm = none) (h8 : 1000 ≤ nm) (hk : k + 1 ≤ kc) (hn : n + N ≤ ks) (dd : decode cc pc = .ok (.new idx, 3))
    (kk : zW X Q (zup h nm (.inr (ci, fs))) (k + 1) (n + N) (pc + 3) env (.ref nm :: st)) : zW X Q h k n pc env st := by
  obtain ⟨p, l, e, R, s, m, args, below, meth, c, D, dA, r0, A, mc, ms⟩ := X
  obtain ⟨hx, hb, hml, hrt, hlk, hnm, hown, hts, hN, hNc, hK, hA0, hfl, hR, hmc, hms, hG, hT⟩ := K
  intro r H locs ls st' g0 g1 g2 g3 g4 g5
  obtain ⟨C, T, hci, hl, hi, hin, hfs, hnr⟩ := w
  have hKn := hK.1 ci _ hci
  obtain ⟨hin0, hty, -⟩ := zcl_ok hci
  refine W.newcK hx hb hown (hts _ hl) (hts _ hi) (hts _ hin) rfl dd (by rw [hR]; exact hk) (by rw [hR]; exact hn) hKn.2.1 rfl fun H1 kC hkC e1 z1 o1 => ?_
  have hpush := g1.push hf h8 z1 o1 (c := .inr (ci, fs)) (Or.inr ⟨fs, znr_self hnr, ⟨_, hci, (u_born (zfty ci) hts hin0 hKn hkC e1 hty).to hfs⟩, fun _ => ⟨_, e1, rfl, rfl⟩⟩)
  exact kk _ H1 locs ls _ (g0.tr hpush.2) hpush.1 (g2.push h8 (hA0 _ g3.1)) (g3.push z1 o1) (g4.mono hpush.2) (zvs.r (zrup_at _ _ _) (g5.mono hpush.2))
/-- new arrays of numbers -/
theorem z_newi (K : zK y cc nL ret hh d kc ks X) {a : Int} (nm : Nat) (h0 : 0 ≤ a) (h1 : a ≤ 100000) (hf : h nm = none) (h8 : 1000 ≤ nm) (hk : k + 1 ≤ kc) (hn : n + a.toNat ≤ ks) (dd : decode cc pc = .ok (.newarray .int, 2))
    (kk : zW X Q (zup h nm (.inl (0, a.toNat, .inl fun _ => 0))) (k + 1) (n + a.toNat) (pc + 2) env (.ref nm :: st)) : zW X Q h k n pc env (.int (iI a) :: st) := by
  obtain ⟨p, l, e, R, s, m, args, below, meth, c, D, dA, r0, A, mc, ms⟩ := X
  obtain ⟨hx, hb, hml, hrt, hlk, hnm, hown, hts, hN, hNc, hK, hA0, hfl, hR, hmc, hms, hG, hT⟩ := K
  intro r H locs ls st' g0 g1 g2 g3 g4 g5
  obtain ⟨_, rfl, g6⟩ := zvs_i g5
  refine va_newaK hx hb (atype := .int) (hts _ q266) rfl dd rfl (n := iI a) (N := a.toNat) (iI_n0 h0 (by omega)) (iI_clamp h0 (by omega)) (by show a.toNat * 4 ≤ _; omega) (by rw [hR]; exact hk) (by rw [hR]; exact hn) rfl fun H1 cA e1 z1 o1 hAr hNm => ?_
  have hcA : cA = dA 0 := Option.some.inj (hNm.symm.trans (hK.2 0 _ rfl).2)
  have hpush := g1.push hf h8 z1 o1 (c := .inl (0, a.toNat, .inl fun _ => 0)) (by show H1[H.size]? = some (vp_cell (dA 0) _); rw [← hcA]; exact e1)
  exact kk _ H1 locs ls _ (g0.tr hpush.2) hpush.1 (g2.push h8 (hA0 _ g3.1)) (g3.push z1 o1) (g4.mono hpush.2) (zvs.r (zrup_at _ _ _) (g6.mono hpush.2))
theorem z_newb (K : zK y cc nL ret hh d kc ks X) {a : Int} (nm : Nat) (h0 : 0 ≤ a) (h1 : a ≤ 100000) (hf : h nm = none) (h8 : 1000 ≤ nm) (hk : k + 1 ≤ kc) (hn : n + a.toNat ≤ ks) (dd : decode cc pc = .ok (.newarray .byte, 2))
    (kk : zW X Q (zup h nm (.inl (1, a.toNat, .inl fun _ => 0))) (k + 1) (n + a.toNat) (pc + 2) env (.ref nm :: st)) : zW X Q h k n pc env (.int (iI a) :: st) := by
  obtain ⟨p, l, e, R, s, m, args, below, meth, c, D, dA, r0, A, mc, ms⟩ := X
  obtain ⟨hx, hb, hml, hrt, hlk, hnm, hown, hts, hN, hNc, hK, hA0, hfl, hR, hmc, hms, hG, hT⟩ := K
  intro r H locs ls st' g0 g1 g2 g3 g4 g5
  obtain ⟨_, rfl, g6⟩ := zvs_i g5
  refine va_newaK hx hb (atype := .byte) (hts _ q354) rfl dd rfl (n := iI a) (N := a.toNat) (iI_n0 h0 (by omega)) (iI_clamp h0 (by omega)) (by show a.toNat * 1 ≤ _; omega) (by rw [hR]; exact hk) (by rw [hR]; exact hn) rfl fun H1 cA e1 z1 o1 hAr hNm => ?_
  have hcA : cA = dA 1 := Option.some.inj (hNm.symm.trans (hK.2 1 _ rfl).2)
  have hpush := g1.push hf h8 z1 o1 (c := .inl (1, a.toNat, .inl fun _ => 0)) (by show H1[H.size]? = some (vp_cell (dA 1) _); rw [← hcA]; exact e1)
  exact kk _ H1 locs ls _ (g0.tr hpush.2) hpush.1 (g2.push h8 (hA0 _ g3.1)) (g3.push z1 o1) (g4.mono hpush.2) (zvs.r (zrup_at _ _ _) (g6.mono hpush.2))
theorem z_newz (K : zK y cc nL ret hh d kc ks X) {a : Int} (nm : Nat) (h0 : 0 ≤ a) (h1 : a ≤ 100000) (hf : h nm = none) (h8 : 1000 ≤ nm) (hk : k + 1 ≤ kc) (hn : n + a.toNat ≤ ks) (dd : decode cc pc = .ok (.newarray .boolean, 2))
    (kk : zW X Q (zup h nm (.inl (2, a.toNat, .inl fun _ => 0))) (k + 1) (n + a.toNat) (pc + 2) env (.ref nm :: st)) : zW X Q h k n pc env (.int (iI a) :: st) := by
  obtain ⟨p, l, e, R, s, m, args, below, meth, c, D, dA, r0, A, mc, ms⟩ := X
  obtain ⟨hx, hb, hml, hrt, hlk, hnm, hown, hts, hN, hNc, hK, hA0, hfl, hR, hmc, hms, hG, hT⟩ := K
  intro r H locs ls st' g0 g1 g2 g3 g4 g5
  obtain ⟨_, rfl, g6⟩ := zvs_i g5
  refine va_newaK hx hb (atype := .boolean) (hts _ q1905) rfl dd rfl (n := iI a) (N := a.toNat) (iI_n0 h0 (by omega)) (iI_clamp h0 (by omega)) (by show a.toNat * 1 ≤ _; omega) (by rw [hR]; exact hk) (by rw [hR]; exact hn) rfl fun H1 cA e1 z1 o1 hAr hNm => ?_
  have hcA : cA = dA 2 := Option.some.inj (hNm.symm.trans (hK.2 2 _ rfl).2)
  have hpush := g1.push hf h8 z1 o1 (c := .inl (2, a.toNat, .inl fun _ => 0)) (by show H1[H.size]? = some (vp_cell (dA 2) _); rw [← hcA]; exact e1)
  exact kk _ H1 locs ls _ (g0.tr hpush.2) hpush.1 (g2.push h8 (hA0 _ g3.1)) (g3.push z1 o1) (g4.mono hpush.2) (zvs.r (zrup_at _ _ _) (g6.mono hpush.2))
theorem z_newc (K : zK y cc nL ret hh d kc ks X) {a : Int} (nm : Nat) (h0 : 0 ≤ a) (h1 : a ≤ 100000) (hf : h nm = none) (h8 : 1000 ≤ nm) (hk : k + 1 ≤ kc) (hn : n + a.toNat ≤ ks) (dd : decode cc pc = .ok (.newarray .char, 2))
    (kk : zW X Q (zup h nm (.inl (3, a.toNat, .inl fun _ => 0))) (k + 1) (n + a.toNat) (pc + 2) env (.ref nm :: st)) : zW X Q h k n pc env (.int (iI a) :: st) := by
  obtain ⟨p, l, e, R, s, m, args, below, meth, c, D, dA, r0, A, mc, ms⟩ := X
  obtain ⟨hx, hb, hml, hrt, hlk, hnm, hown, hts, hN, hNc, hK, hA0, hfl, hR, hmc, hms, hG, hT⟩ := K
  intro r H locs ls st' g0 g1 g2 g3 g4 g5
  obtain ⟨_, rfl, g6⟩ := zvs_i g5
  refine va_newaK hx hb (atype := .char) (hts _ q1904) rfl dd rfl (n := iI a) (N := a.toNat) (iI_n0 h0 (by omega)) (iI_clamp h0 (by omega)) (by show a.toNat * 2 ≤ _; omega) (by rw [hR]; exact hk) (by rw [hR]; exact hn) rfl fun H1 cA e1 z1 o1 hAr hNm => ?_
  have hcA : cA = dA 3 := Option.some.inj (hNm.symm.trans (hK.2 3 _ rfl).2)
  have hpush := g1.push hf h8 z1 o1 (c := .inl (3, a.toNat, .inl fun _ => 0)) (by show H1[H.size]? = some (vp_cell (dA 3) _); rw [← hcA]; exact e1)
  exact kk _ H1 locs ls _ (g0.tr hpush.2) hpush.1 (g2.push h8 (hA0 _ g3.1)) (g3.push z1 o1) (g4.mono hpush.2) (zvs.r (zrup_at _ _ _) (g6.mono hpush.2))
theorem z_newl (K : zK y cc nL ret hh d kc ks X) {a : Int} (nm : Nat) (h0 : 0 ≤ a) (h1 : a ≤ 100000) (hf : h nm = none) (h8 : 1000 ≤ nm) (hk : k + 1 ≤ kc) (hn : n + a.toNat ≤ ks) (dd : decode cc pc = .ok (.newarray .long, 2))
    (kk : zW X Q (zup h nm (.inl (4, a.toNat, .inr (.inl fun _ => 0)))) (k + 1) (n + a.toNat) (pc + 2) env (.ref nm :: st)) : zW X Q h k n pc env (.int (iI a) :: st) := by
  obtain ⟨p, l, e, R, s, m, args, below, meth, c, D, dA, r0, A, mc, ms⟩ := X
  obtain ⟨hx, hb, hml, hrt, hlk, hnm, hown, hts, hN, hNc, hK, hA0, hfl, hR, hmc, hms, hG, hT⟩ := K
  intro r H locs ls st' g0 g1 g2 g3 g4 g5
  obtain ⟨_, rfl, g6⟩ := zvs_i g5
  refine va_newaK hx hb (atype := .long) (hts _ q2269) rfl dd rfl (n := iI a) (N := a.toNat) (iI_n0 h0 (by omega)) (iI_clamp h0 (by omega)) (by show a.toNat * 8 ≤ _; omega) (by rw [hR]; exact hk) (by rw [hR]; exact hn) rfl fun H1 cA e1 z1 o1 hAr hNm => ?_
  have hcA : cA = dA 4 := Option.some.inj (hNm.symm.trans (hK.2 4 _ rfl).2)
  have hpush := g1.push hf h8 z1 o1 (c := .inl (4, a.toNat, .inr (.inl fun _ => 0))) (by show H1[H.size]? = some (vp_cell (dA 4) _); rw [← hcA]; exact e1)
  exact kk _ H1 locs ls _ (g0.tr hpush.2) hpush.1 (g2.push h8 (hA0 _ g3.1)) (g3.push z1 o1) (g4.mono hpush.2) (zvs.r (zrup_at _ _ _) (g6.mono hpush.2))
theorem z_newd (K : zK y cc nL ret hh d kc ks X) {a : Int} (nm : Nat) (h0 : 0 ≤ a) (h1 : a ≤ 100000) (hf : h nm = none) (h8 : 1000 ≤ nm) (hk : k + 1 ≤ kc) (hn : n + a.toNat ≤ ks) (dd : decode cc pc = .ok (.newarray .double, 2))
    (kk : zW X Q (zup h nm (.inl (5, a.toNat, .inr (.inr (.inr (.inl fun _ => 0)))))) (k + 1) (n + a.toNat) (pc + 2) env (.ref nm :: st)) : zW X Q h k n pc env (.int (iI a) :: st) := by
  obtain ⟨p, l, e, R, s, m, args, below, meth, c, D, dA, r0, A, mc, ms⟩ := X
  obtain ⟨hx, hb, hml, hrt, hlk, hnm, hown, hts, hN, hNc, hK, hA0, hfl, hR, hmc, hms, hG, hT⟩ := K
  intro r H locs ls st' g0 g1 g2 g3 g4 g5
  obtain ⟨_, rfl, g6⟩ := zvs_i g5
  refine va_newaK hx hb (atype := .double) (hts _ q2270) rfl dd rfl (n := iI a) (N := a.toNat) (iI_n0 h0 (by omega)) (iI_clamp h0 (by omega)) (by show a.toNat * 8 ≤ _; omega) (by rw [hR]; exact hk) (by rw [hR]; exact hn) rfl fun H1 cA e1 z1 o1 hAr hNm => ?_
  have hcA : cA = dA 5 := Option.some.inj (hNm.symm.trans (hK.2 5 _ rfl).2)
  have hpush := g1.push hf h8 z1 o1 (c := .inl (5, a.toNat, .inr (.inr (.inr (.inl fun _ => 0))))) (by show H1[H.size]? = some (vp_cell (dA 5) _); rw [← hcA]; exact e1)
  exact kk _ H1 locs ls _ (g0.tr hpush.2) hpush.1 (g2.push h8 (hA0 _ g3.1)) (g3.push z1 o1) (g4.mono hpush.2) (zvs.r (zrup_at _ _ _) (g6.mono hpush.2))
/-- a new array of references to Object -/
theorem z_newq (K : zK y cc nL ret hh d kc ks X) {a : Int} {idx : Nat} (nm : Nat) (hl : Jvm.Cond.classLink y.cls idx "java/lang/Object" ∈ lw_all) (h0 : 0 ≤ a) (h1 : a ≤ 100000) (hf : h nm = none) (h8 : 1000 ≤ nm) (hk : k + 1 ≤ kc) (hn : n + a.toNat ≤ ks) (dd : decode cc pc = .ok (.anewarray idx, 3))
    (kk : zW X Q (zup h nm (.inl (6, a.toNat, .inr (.inr (.inr (.inr fun _ => none)))))) (k + 1) (n + a.toNat) (pc + 3) env (.ref nm :: st)) : zW X Q h k n pc env (.int (iI a) :: st) := by
  obtain ⟨p, l, e, R, s, m, args, below, meth, c, D, dA, r0, A, mc, ms⟩ := X
  obtain ⟨hx, hb, hml, hrt, hlk, hnm, hown, hts, hN, hNc, hK, hA0, hfl, hR, hmc, hms, hG, hT⟩ := K
  intro r H locs ls st' g0 g1 g2 g3 g4 g5
  obtain ⟨_, rfl, g6⟩ := zvs_i g5
  have hcl : (iI a).toNatClampNeg = a.toNat := iI_clamp h0 (by omega)
  refine W.anew hx hb hown (hts _ hl) (va_AO.use hNc.2.1) rfl dd rfl (iI_n0 h0 (by omega)) (by rw [hcl]; omega) (by rw [hR]; exact hk) (by rw [hR, hcl]; exact hn) fun cA kA comp f1 f2 f3 f4 => ?_
  have hcA : cA = dA 6 := by
    obtain ⟨-, -, -, -, -, h4⟩ := (hK.2 6 _ rfl).2
    exact Option.some.inj (f1.symm.trans h4)
  rw [hcl]
  generalize hH1 : H.push ({ cls := cA, slots := Array.replicate a.toNat .null, vm := .none } : Cell) = H1
  have z1 : H1.size = H.size + 1 := by rw [← hH1, Array.size_push]
  have e1 : H1[H.size]? = some (arrV cA a.toNat (fun _ => .null)) := by rw [← hH1, Array.getElem?_push_size, ← arrV_new]
  have o1 : ∀ q : Nat, q < H.size → H1[q]? = H[q]? := fun q hq => by rw [← hH1, Array.getElem?_push, if_neg (Nat.ne_of_lt hq)]
  have hpush := g1.push hf h8 z1 o1 (c := .inl (6, a.toNat, .inr (.inr (.inr (.inr fun _ => none))))) ⟨fun _ => none, fun j => rfl, by show H1[H.size]? = some (vp_cell (dA 6) _); rw [← hcA]; exact e1⟩
  exact kk _ H1 locs ls _ (g0.tr hpush.2) hpush.1 (g2.push h8 (hA0 _ g3.1)) (g3.push z1 o1) (g4.mono hpush.2) (zvs.r (zrup_at _ _ _) (g6.mono hpush.2))
theorem zP1 {D : va_G} {q : Nat × va_E} {H : Heap} (h : va_at D zcl q H) : va_P D zcl [q] H := fun k x hk => by
  match k, hk with
  | 0, hk => cases hk; exact h
  | k + 1, hk => cases hk
theorem z_aald (K : zK y cc nL ret hh d kc ks X) {nm N : Nat} {f : Nat → Option Nat} {a : Int} {v : Value} (hn : h nm = some (.inl (6, N, .inr (.inr (.inr (.inr f)))))) (h0 : 0 ≤ a) (h1 : a < (N : Int)) (hN : N ≤ 100000) (hv : zrv (f a.toNat) = v) (dd : decode cc pc = .ok (.aaload, 1))
    (kk : zW X Q h k n (pc + 1) env (v :: st)) : zW X Q h k n pc env (.int (iI a) :: .ref nm :: st) := by
  obtain ⟨p, l, e, R, s, m, args, below, meth, c, D, dA, r0, A, mc, ms⟩ := X
  obtain ⟨hx, hb, hml, hrt, hlk, hnm, hown, hts, hN, hNc, hK, hA0, hfl, hR, hmc, hms, hG, hT⟩ := K
  intro r H locs ls st' g0 g1 g2 g3 g4 g5
  obtain ⟨_, rfl, g6⟩ := zvs_i g5
  obtain ⟨b, _, gr, rfl, g7⟩ := zvs_r g6
  obtain ⟨g, hg, hat⟩ := g1.at hn gr (Or.inl (show (N == 0) = false from beq_false_of_ne (by omega)))
  refine va_aldq hx hb hK (zP1 (q := (b, .inl (dA 6, N, .inr (.inr (.inr (.inr g)))))) hat) 0 6 rfl rfl (iI_in h0 h1 (by omega)) dd ?_
  rw [iI_clamp h0 (by omega)]
  have hg := hg a.toNat
  subst hv
  cases hfa : f a.toNat with
  | none =>
    rw [hfa] at hg kk
    have hg : g a.toNat = none := hg
    rw [hg]
    exact kk r H locs ls _ g0 g1 g2 g3 g4 g7.n
  | some q =>
    rw [hfa] at hg kk
    obtain ⟨x, e1, e2⟩ := hg
    rw [e2]
    exact kk r H locs ls _ g0 g1 g2 g3 g4 (g7.r e1)
/-- a store to an array of Object: of an object -/
theorem z_aast (K : zK y cc nL ret hh d kc ks X) {nm N ci x : Nat} {f : Nat → Option Nat} {fs : List Value} {a : Int} {C : String} (hn : h nm = some (.inl (6, N, .inr (.inr (.inr (.inr f)))))) (h8 : 1000 ≤ nm) (hx9 : h x = some (.inr (ci, fs))) (hci : (zcl[ci]?).map (fun q => q.1) = some C) (hcast : Jvm.Cond.castable C "java/lang/Object" ∈ lw_tbl) (h0 : 0 ≤ a) (h1 : a < (N : Int)) (hN9 : N ≤ 100000) (dd : decode cc pc = .ok (.aastore, 1))
    (kk : zW X Q (zup h nm (.inl (6, N, .inr (.inr (.inr (.inr (va_up f a.toNat (some x)))))))) k n (pc + 1) env st) : zW X Q h k n pc env (.ref x :: .int (iI a) :: .ref nm :: st) := by
  obtain ⟨p, l, e, R, s, m, args, below, meth, c, D, dA, r0, A, mc, ms⟩ := X
  obtain ⟨hx, hb, hml, hrt, hlk, hnm, hown, hts, hN, hNc, hK, hA0, hfl, hR, hmc, hms, hG, hT⟩ := K
  intro r H locs ls st' g0 g1 g2 g3 g4 g5
  obtain ⟨av, _, gv, rfl, g6⟩ := zvs_r g5
  obtain ⟨_, rfl, g7⟩ := zvs_i g6
  obtain ⟨b, _, gr, rfl, g8⟩ := zvs_r g7
  obtain ⟨g, hg, hat⟩ := g1.at hn gr
  have hat : H[b]? = some (vp_cell (dA 6) (N, .inr (.inr (.inr (.inr g))))) := hat
  obtain ⟨q, hq⟩ : ∃ q, zcl[ci]? = some q := by
    cases hz : zcl[ci]? with
    | none => rw [hz] at hci; cases hci
    | some q => exact ⟨q, rfl⟩
  have hC : q.1 = C := by rw [hq] at hci; exact Option.some.inj hci
  obtain ⟨fs', cellV, -, q1, q2, q3, -, -⟩ := g1.obj hx9 gv hq
  have hcls : s.vm.findClass C = some cellV.cls := by rw [q2, ← hC]; exact (hK.1 ci q hq).2.1
  obtain ⟨kA, comp, k1, k2, k3, -⟩ := (hK.2 6 _ rfl).2
  obtain ⟨kE, hkE, -⟩ := Vm.findClass_spec k3
  obtain ⟨kC, hkC, -⟩ := Vm.findClass_spec hcls
  have hin := iI_in h0 h1 (by omega)
  have hlt : (iI a).toNatClampNeg < N := Nat.not_le.mp fun q => hin (Or.inr q)
  refine W.aast hx hb hat (fun q h => by cases h) (fun h => by cases h) k1 k2 rfl hkE ⟨iI_n0 h0 (by omega), by show _ < (arrV _ _ _).slots.size; rw [arrV_size]; exact hlt⟩ q1 (fun q h => by rw [h] at q3; cases q3) hkC (vb_asgC (hN _ hcast rfl) _ _ k3 hcls) rfl rfl dd fun H1 e z oq => ?_
  refine kk r H1 _ ls _ g0 (g1.put hn h8 gr ⟨va_up g a.toNat (some av), fun j => ?_, ?_⟩ z oq) g2 (g3.put z oq (g2.1 nm b h8 gr)) g4 g8
  · by_cases hj : j = a.toNat
    · subst hj
      rw [va_up_self, va_up_self]
      exact ⟨av, gv, rfl⟩
    · rw [va_up_ne _ _ hj, va_up_ne _ _ hj]
      exact hg j
  · show H1[b]? = some (vp_cell _ _)
    rw [e, iI_clamp h0 (by omega)]
    rw [vp_cell_q, vp_cell_q, arrV_store]
    congr 2
    funext q
    by_cases hq : q = a.toNat
    · subst hq
      simp [updV, va_up, va_rf]
    · simp [updV, va_up, hq]
/-- .. of an array of ints -/
theorem z_aastA (K : zK y cc nL ret hh d kc ks X) {nm N M x : Nat} {f : Nat → Option Nat} {f9 : Nat → Int32} {a : Int} (hn : h nm = some (.inl (6, N, .inr (.inr (.inr (.inr f)))))) (h8 : 1000 ≤ nm) (hx9 : h x = some (.inl (0, M, .inl f9))) (h0 : 0 ≤ a) (h1 : a < (N : Int)) (hN9 : N ≤ 100000) (dd : decode cc pc = .ok (.aastore, 1))
    (kk : zW X Q (zup h nm (.inl (6, N, .inr (.inr (.inr (.inr (va_up f a.toNat (some x)))))))) k n (pc + 1) env st) : zW X Q h k n pc env (.ref x :: .int (iI a) :: .ref nm :: st) := by
  obtain ⟨p, l, e, R, s, m, args, below, meth, c, D, dA, r0, A, mc, ms⟩ := X
  obtain ⟨hx, hb, hml, hrt, hlk, hnm, hown, hts, hN, hNc, hK, hA0, hfl, hR, hmc, hms, hG, hT⟩ := K
  intro r H locs ls st' g0 g1 g2 g3 g4 g5
  obtain ⟨av, _, gv, rfl, g6⟩ := zvs_r g5
  obtain ⟨_, rfl, g7⟩ := zvs_i g6
  obtain ⟨b, _, gr, rfl, g8⟩ := zvs_r g7
  obtain ⟨g, hg, hat⟩ := g1.at hn gr
  have hat : H[b]? = some (vp_cell (dA 6) (N, .inr (.inr (.inr (.inr g))))) := hat
  have q1 : H[av]? = some (vp_cell (dA 0) (M, .inl f9)) := g1.at hx9 gv
  have hcls : s.vm.findClass "[I" = some (dA 0) := (hK.2 0 _ rfl).2
  obtain ⟨kA, comp, k1, k2, k3, -⟩ := (hK.2 6 _ rfl).2
  obtain ⟨kE, hkE, -⟩ := Vm.findClass_spec k3
  obtain ⟨kC, hkC, -⟩ := Vm.findClass_spec hcls
  have hin := iI_in h0 h1 (by omega)
  have hlt : (iI a).toNatClampNeg < N := Nat.not_le.mp fun q => hin (Or.inr q)
  refine W.aast hx hb hat (fun q h => by cases h) (fun h => by cases h) k1 k2 rfl hkE ⟨iI_n0 h0 (by omega), by show _ < (arrV _ _ _).slots.size; rw [arrV_size]; exact hlt⟩ q1 (fun q h => by cases h) hkC (vb_asgC (hN _ q2320 rfl) _ _ k3 hcls) rfl rfl dd fun H1 e z oq => ?_
  refine kk r H1 _ ls _ g0 (g1.put hn h8 gr ⟨va_up g a.toNat (some av), fun j => ?_, ?_⟩ z oq) g2 (g3.put z oq (g2.1 nm b h8 gr)) g4 g8
  · by_cases hj : j = a.toNat
    · subst hj
      rw [va_up_self, va_up_self]
      exact ⟨av, gv, rfl⟩
    · rw [va_up_ne _ _ hj, va_up_ne _ _ hj]
      exact hg j
  · show H1[b]? = some (vp_cell _ _)
    rw [e, iI_clamp h0 (by omega)]
    rw [vp_cell_q, vp_cell_q, arrV_store]
    congr 2
    funext q
    by_cases hq : q = a.toNat
    · subst hq
      simp [updV, va_up, va_rf]
    · simp [updV, va_up, hq]
/-- .. of null -/
theorem z_aastN (K : zK y cc nL ret hh d kc ks X) {nm N : Nat} {f : Nat → Option Nat} {a : Int} (hn : h nm = some (.inl (6, N, .inr (.inr (.inr (.inr f)))))) (h8 : 1000 ≤ nm) (h0 : 0 ≤ a) (h1 : a < (N : Int)) (hN9 : N ≤ 100000) (dd : decode cc pc = .ok (.aastore, 1))
    (kk : zW X Q (zup h nm (.inl (6, N, .inr (.inr (.inr (.inr (va_up f a.toNat none))))))) k n (pc + 1) env st) : zW X Q h k n pc env (.null :: .int (iI a) :: .ref nm :: st) := by
  obtain ⟨p, l, e, R, s, m, args, below, meth, c, D, dA, r0, A, mc, ms⟩ := X
  obtain ⟨hx, hb, hml, hrt, hlk, hnm, hown, hts, hN, hNc, hK, hA0, hfl, hR, hmc, hms, hG, hT⟩ := K
  intro r H locs ls st' g0 g1 g2 g3 g4 g5
  obtain ⟨_, rfl, g6⟩ := zvs_n g5
  obtain ⟨_, rfl, g7⟩ := zvs_i g6
  obtain ⟨b, _, gr, rfl, g8⟩ := zvs_r g7
  obtain ⟨g, hg, hat⟩ := g1.at hn gr
  have hat : H[b]? = some (vp_cell (dA 6) (N, .inr (.inr (.inr (.inr g))))) := hat
  have hin := iI_in h0 h1 (by omega)
  refine va_WaastN (C := "java/lang/Object") hx hb hat ((hK.2 6 _ rfl).1 N (fun j => va_rf (g j))) (fun h => by cases h) (by show ¬ (iI a < 0 ∨ (arrV _ _ _).slots.size ≤ _); rw [arrV_size]; exact hin) rfl rfl dd fun H1 e z oq => ?_
  refine kk r H1 _ ls _ g0 (g1.put hn h8 gr ⟨va_up g a.toNat none, fun j => ?_, ?_⟩ z oq) g2 (g3.put z oq (g2.1 nm b h8 gr)) g4 g8
  · by_cases hj : j = a.toNat
    · subst hj
      rw [va_up_self, va_up_self]
    · rw [va_up_ne _ _ hj, va_up_ne _ _ hj]
      exact hg j
  · show H1[b]? = some (vp_cell _ _)
    rw [e, iI_clamp h0 (by omega)]
    rw [vp_cell_q, vp_cell_q, arrV_store]
    congr 2
    funext q
    by_cases hq : q = a.toNat
    · subst hq
      simp [updV, va_up, va_rf]
    · simp [updV, va_up, hq]
theorem z_alen (K : zK y cc nL ret hh d kc ks X) {nm ty N : Nat} {x : (Nat → Int32) ⊕ (Nat → Int64) ⊕ (Nat → UInt32) ⊕ (Nat → UInt64) ⊕ (Nat → Option Nat)} (hn : h nm = some (.inl (ty, N, x))) (hty : (zty (fun i => i))[ty]?.isSome = true) (dd : decode cc pc = .ok (.arraylength, 1))
    (kk : zW X Q h k n (pc + 1) env (.int (iI N) :: st)) : zW X Q h k n pc env (.ref nm :: st) := by
  obtain ⟨p, l, e, R, s, m, args, below, meth, c, D, dA, r0, A, mc, ms⟩ := X
  obtain ⟨hx, hb, hml, hrt, hlk, hnm, hown, hts, hN, hNc, hK, hA0, hfl, hR, hmc, hms, hG, hT⟩ := K
  intro r H locs ls st' g0 g1 g2 g3 g4 g5
  obtain ⟨b, _, gr, rfl, g6⟩ := zvs_r g5
  have ht : ∃ t, (zty dA)[ty]? = some (dA ty, t) := by
    match ty, hty with
    | 0, _ => exact ⟨_, rfl⟩
    | 1, _ => exact ⟨_, rfl⟩
    | 2, _ => exact ⟨_, rfl⟩
    | 3, _ => exact ⟨_, rfl⟩
    | 4, _ => exact ⟨_, rfl⟩
    | 5, _ => exact ⟨_, rfl⟩
    | 6, _ => exact ⟨_, rfl⟩
    | j + 7, h => cases h
  obtain ⟨t, ht⟩ := ht
  rcases g1.2.2.2 nm _ b hn gr with hz | ⟨-, cell, z1, z2, z3, ⟨v, z4, -⟩ | ⟨ty', f', z4, z5, z6⟩⟩
  rotate_left
  · cases z4
  · cases z4
    obtain ⟨-, kA, hkA, cmp, hkk⟩ := (hK.2 ty _ ht).1 0 (fun _ => .null)
    exact W.alen (n := Int32.ofNat 0) hx hb z1 ⟨fun q e => (by rw [e] at z2; cases z2), kA, (by rw [z5]; exact hkA), cmp, hkk⟩ z6 rfl rfl dd (by rw [show Int32.ofNat 0 = iI ((0 : Nat) : Int) from (iI_nat 0).symm]; exact kk r H locs ls _ g0 g1 g2 g3 g4 g6.i)
  have hx9 : ∃ x', va_at D zcl (b, .inl (dA ty, N, x')) H := by
    match x, hz with
    | .inl f, hz => exact ⟨_, hz⟩
    | .inr (.inl f), hz => exact ⟨_, hz⟩
    | .inr (.inr (.inl f)), hz => exact ⟨_, hz⟩
    | .inr (.inr (.inr (.inl f))), hz => exact ⟨_, hz⟩
    | .inr (.inr (.inr (.inr f))), hz =>
      obtain ⟨g, -, hat⟩ := hz
      exact ⟨_, hat⟩
  obtain ⟨x', hat⟩ := hx9
  exact va_alen hx hb hK (zP1 (q := (b, .inl (dA ty, N, x'))) hat) 0 ty rfl ht (iI_nat N).symm dd (kk r H locs ls _ g0 g1 g2 g3 g4 g6.i)
end ZR2
