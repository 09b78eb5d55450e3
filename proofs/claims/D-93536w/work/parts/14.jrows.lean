/-! ===== rows in whole numbers: iI z is the int of z ===== -/
def iI (z : Int) : Int32 := Int32.ofInt z
theorem iI_add (a b : Int) : iI a + iI b = iI (a + b) := (Int32.ofInt_add a b).symm
theorem iI_sub (a b : Int) : iI a - iI b = iI (a - b) := (Int32.ofInt_sub a b).symm
theorem iI_mul (a b : Int) : iI a * iI b = iI (a * b) := (Int32.ofInt_mul a b).symm
theorem iI_neg (a : Int) : -iI a = iI (-a) := (Int32.ofInt_neg a).symm
theorem iI_toInt {a : Int} (h : -2147483648 ≤ a ∧ a ≤ 2147483647) : (iI a).toInt = a := Int32.toInt_ofInt_of_le (by simpa using h.1) (by have := h.2; simp; omega)
theorem iI_self (x : Int32) : iI x.toInt = x := Int32.ofInt_toInt x
theorem iI_lt {a b : Int} (ha : -2147483648 ≤ a ∧ a ≤ 2147483647) (hb : -2147483648 ≤ b ∧ b ≤ 2147483647) : iI a < iI b ↔ a < b := by
  rw [Int32.lt_iff_toInt_lt, iI_toInt ha, iI_toInt hb]
theorem iI_le {a b : Int} (ha : -2147483648 ≤ a ∧ a ≤ 2147483647) (hb : -2147483648 ≤ b ∧ b ≤ 2147483647) : iI a ≤ iI b ↔ a ≤ b := by
  rw [Int32.le_iff_toInt_le, iI_toInt ha, iI_toInt hb]
theorem iI_eq {a b : Int} (ha : -2147483648 ≤ a ∧ a ≤ 2147483647) (hb : -2147483648 ≤ b ∧ b ≤ 2147483647) : iI a = iI b ↔ a = b := by
  constructor
  · intro h
    have := congrArg Int32.toInt h
    rwa [iI_toInt ha, iI_toInt hb] at this
  · intro h; rw [h]
theorem iI_0 : iI 0 = 0 := rfl
theorem iI_clamp {a : Int} (h0 : 0 ≤ a) (h : a ≤ 2147483647) : (iI a).toNatClampNeg = a.toNat := by
  show (iI a).toInt.toNat = a.toNat
  rw [iI_toInt (by omega)]
theorem iI_in {a : Int} {N : Nat} (h0 : 0 ≤ a) (h1 : a < N) (hN : N ≤ 2147483647) : vp_in (iI a) N := by
  rintro (h | h)
  · rw [← iI_0, iI_lt (by omega) (by omega)] at h
    omega
  · rw [iI_clamp h0 (by omega)] at h
    omega
section ZJ
variable {y : MethodName} {cc : ByteArray} {nL : Nat} {ret : Option FieldType} {hh : List (Nat × Nat × Nat × Nat)} {d kc ks : Nat} {X : zX} {Q : zO → zH → Prop} {h : zH} {k n pc : Nat} {env : List (Nat × Value)} {st : List Value}
theorem j_iconst (K : zK y cc nL ret hh d kc ks X) {j : Int} (dd : decode cc pc = .ok (.iconst j, 1)) (kk : zW X Q h k n (pc + 1) env (.int (iI j) :: st)) : zW X Q h k n pc env st := z_iconst K dd rfl kk
theorem j_bipush (K : zK y cc nL ret hh d kc ks X) {j : Int} (dd : decode cc pc = .ok (.bipush j, 2)) (hv : (Int8.ofInt j).toInt32 = iI j) (kk : zW X Q h k n (pc + 2) env (.int (iI j) :: st)) : zW X Q h k n pc env st := z_bipush K dd hv kk
theorem j_sipush (K : zK y cc nL ret hh d kc ks X) {j : Int} (dd : decode cc pc = .ok (.sipush j, 3)) (hv : (Int16.ofInt j).toInt32 = iI j) (kk : zW X Q h k n (pc + 3) env (.int (iI j) :: st)) : zW X Q h k n pc env st := z_sipush K dd hv kk
theorem j_iadd (K : zK y cc nL ret hh d kc ks X) {a b : Int} (dd : decode cc pc = .ok (.iadd, 1)) (kk : zW X Q h k n (pc + 1) env (.int (iI (a + b)) :: st)) : zW X Q h k n pc env (.int (iI b) :: .int (iI a) :: st) := z_iadd K dd (by rw [iI_add]; exact kk)
theorem j_isub (K : zK y cc nL ret hh d kc ks X) {a b : Int} (dd : decode cc pc = .ok (.isub, 1)) (kk : zW X Q h k n (pc + 1) env (.int (iI (a - b)) :: st)) : zW X Q h k n pc env (.int (iI b) :: .int (iI a) :: st) := z_isub K dd (by rw [iI_sub]; exact kk)
theorem j_imul (K : zK y cc nL ret hh d kc ks X) {a b : Int} (dd : decode cc pc = .ok (.imul, 1)) (kk : zW X Q h k n (pc + 1) env (.int (iI (a * b)) :: st)) : zW X Q h k n pc env (.int (iI b) :: .int (iI a) :: st) := z_imul K dd (by rw [iI_mul]; exact kk)
theorem j_ineg (K : zK y cc nL ret hh d kc ks X) {a : Int} (dd : decode cc pc = .ok (.ineg, 1)) (kk : zW X Q h k n (pc + 1) env (.int (iI (-a)) :: st)) : zW X Q h k n pc env (.int (iI a) :: st) := z_ineg K dd (by rw [iI_neg]; exact kk)
theorem j_iinc (K : zK y cc nL ret hh d kc ks X) {i : Nat} {j a : Int} (dd : decode cc pc = .ok (.iinc i j, 3)) (hv : zl env i = some (.int (iI a))) (hn : i < nL) (hz : zlo env i = true) (kk : zW X Q h k n (pc + 3) ((i, .int (iI (a + j))) :: env) st) : zW X Q h k n pc env st := z_iinc K dd hv (iI_add a j) hn hz kk
theorem j_icmp_eq (K : zK y cc nL ret hh d kc ks X) {a b : Int} {off : Int} {tgt : Nat} (dd : decode cc pc = .ok (.if_icmp .eq off, 3)) (ht : (pc : Int) + off = (tgt : Int)) (ha : -2147483648 ≤ a ∧ a ≤ 2147483647) (hb : -2147483648 ≤ b ∧ b ≤ 2147483647) (kt : a = b → zW X Q h k n tgt env st) (kf : a ≠ b → zW X Q h k n (pc + 3) env st) : zW X Q h k n pc env (.int (iI b) :: .int (iI a) :: st) := z_icmp_eq K dd ht (fun q => kt ((iI_eq ha hb).mp q)) (fun q => kf (fun e => q ((iI_eq ha hb).mpr e)))
theorem j_if_eq (K : zK y cc nL ret hh d kc ks X) {a : Int} {off : Int} {tgt : Nat} (dd : decode cc pc = .ok (.ifCond .eq off, 3)) (ht : (pc : Int) + off = (tgt : Int)) (ha : -2147483648 ≤ a ∧ a ≤ 2147483647) (kt : a = 0 → zW X Q h k n tgt env st) (kf : a ≠ 0 → zW X Q h k n (pc + 3) env st) : zW X Q h k n pc env (.int (iI a) :: st) := by
  have hb : -2147483648 ≤ (0 : Int) ∧ (0 : Int) ≤ 2147483647 := by omega
  exact z_if_eq K dd ht (fun q => kt ((iI_eq ha hb).mp q)) (fun q => kf (fun e => q ((iI_eq ha hb).mpr e)))
theorem j_icmp_ne (K : zK y cc nL ret hh d kc ks X) {a b : Int} {off : Int} {tgt : Nat} (dd : decode cc pc = .ok (.if_icmp .ne off, 3)) (ht : (pc : Int) + off = (tgt : Int)) (ha : -2147483648 ≤ a ∧ a ≤ 2147483647) (hb : -2147483648 ≤ b ∧ b ≤ 2147483647) (kt : a ≠ b → zW X Q h k n tgt env st) (kf : a = b → zW X Q h k n (pc + 3) env st) : zW X Q h k n pc env (.int (iI b) :: .int (iI a) :: st) := z_icmp_ne K dd ht (fun q => kt (fun e => q ((iI_eq ha hb).mpr e))) (fun q => kf ((iI_eq ha hb).mp q))
theorem j_if_ne (K : zK y cc nL ret hh d kc ks X) {a : Int} {off : Int} {tgt : Nat} (dd : decode cc pc = .ok (.ifCond .ne off, 3)) (ht : (pc : Int) + off = (tgt : Int)) (ha : -2147483648 ≤ a ∧ a ≤ 2147483647) (kt : a ≠ 0 → zW X Q h k n tgt env st) (kf : a = 0 → zW X Q h k n (pc + 3) env st) : zW X Q h k n pc env (.int (iI a) :: st) := by
  have hb : -2147483648 ≤ (0 : Int) ∧ (0 : Int) ≤ 2147483647 := by omega
  exact z_if_ne K dd ht (fun q => kt (fun e => q ((iI_eq ha hb).mpr e))) (fun q => kf ((iI_eq ha hb).mp q))
theorem j_icmp_lt (K : zK y cc nL ret hh d kc ks X) {a b : Int} {off : Int} {tgt : Nat} (dd : decode cc pc = .ok (.if_icmp .lt off, 3)) (ht : (pc : Int) + off = (tgt : Int)) (ha : -2147483648 ≤ a ∧ a ≤ 2147483647) (hb : -2147483648 ≤ b ∧ b ≤ 2147483647) (kt : a < b → zW X Q h k n tgt env st) (kf : b ≤ a → zW X Q h k n (pc + 3) env st) : zW X Q h k n pc env (.int (iI b) :: .int (iI a) :: st) := z_icmp_lt K dd ht (fun q => kt ((iI_lt ha hb).mp q)) (fun q => kf (Int.not_lt.mp fun e => q ((iI_lt ha hb).mpr e)))
theorem j_if_lt (K : zK y cc nL ret hh d kc ks X) {a : Int} {off : Int} {tgt : Nat} (dd : decode cc pc = .ok (.ifCond .lt off, 3)) (ht : (pc : Int) + off = (tgt : Int)) (ha : -2147483648 ≤ a ∧ a ≤ 2147483647) (kt : a < 0 → zW X Q h k n tgt env st) (kf : 0 ≤ a → zW X Q h k n (pc + 3) env st) : zW X Q h k n pc env (.int (iI a) :: st) := by
  have hb : -2147483648 ≤ (0 : Int) ∧ (0 : Int) ≤ 2147483647 := by omega
  exact z_if_lt K dd ht (fun q => kt ((iI_lt ha hb).mp q)) (fun q => kf (Int.not_lt.mp fun e => q ((iI_lt ha hb).mpr e)))
theorem j_icmp_ge (K : zK y cc nL ret hh d kc ks X) {a b : Int} {off : Int} {tgt : Nat} (dd : decode cc pc = .ok (.if_icmp .ge off, 3)) (ht : (pc : Int) + off = (tgt : Int)) (ha : -2147483648 ≤ a ∧ a ≤ 2147483647) (hb : -2147483648 ≤ b ∧ b ≤ 2147483647) (kt : b ≤ a → zW X Q h k n tgt env st) (kf : a < b → zW X Q h k n (pc + 3) env st) : zW X Q h k n pc env (.int (iI b) :: .int (iI a) :: st) := z_icmp_ge K dd ht (fun q => kt ((iI_le hb ha).mp q)) (fun q => kf (Int.not_le.mp fun e => q ((iI_le hb ha).mpr e)))
theorem j_if_ge (K : zK y cc nL ret hh d kc ks X) {a : Int} {off : Int} {tgt : Nat} (dd : decode cc pc = .ok (.ifCond .ge off, 3)) (ht : (pc : Int) + off = (tgt : Int)) (ha : -2147483648 ≤ a ∧ a ≤ 2147483647) (kt : 0 ≤ a → zW X Q h k n tgt env st) (kf : a < 0 → zW X Q h k n (pc + 3) env st) : zW X Q h k n pc env (.int (iI a) :: st) := by
  have hb : -2147483648 ≤ (0 : Int) ∧ (0 : Int) ≤ 2147483647 := by omega
  exact z_if_ge K dd ht (fun q => kt ((iI_le hb ha).mp q)) (fun q => kf (Int.not_le.mp fun e => q ((iI_le hb ha).mpr e)))
theorem j_icmp_gt (K : zK y cc nL ret hh d kc ks X) {a b : Int} {off : Int} {tgt : Nat} (dd : decode cc pc = .ok (.if_icmp .gt off, 3)) (ht : (pc : Int) + off = (tgt : Int)) (ha : -2147483648 ≤ a ∧ a ≤ 2147483647) (hb : -2147483648 ≤ b ∧ b ≤ 2147483647) (kt : b < a → zW X Q h k n tgt env st) (kf : a ≤ b → zW X Q h k n (pc + 3) env st) : zW X Q h k n pc env (.int (iI b) :: .int (iI a) :: st) := z_icmp_gt K dd ht (fun q => kt ((iI_lt hb ha).mp q)) (fun q => kf (Int.not_lt.mp fun e => q ((iI_lt hb ha).mpr e)))
theorem j_if_gt (K : zK y cc nL ret hh d kc ks X) {a : Int} {off : Int} {tgt : Nat} (dd : decode cc pc = .ok (.ifCond .gt off, 3)) (ht : (pc : Int) + off = (tgt : Int)) (ha : -2147483648 ≤ a ∧ a ≤ 2147483647) (kt : 0 < a → zW X Q h k n tgt env st) (kf : a ≤ 0 → zW X Q h k n (pc + 3) env st) : zW X Q h k n pc env (.int (iI a) :: st) := by
  have hb : -2147483648 ≤ (0 : Int) ∧ (0 : Int) ≤ 2147483647 := by omega
  exact z_if_gt K dd ht (fun q => kt ((iI_lt hb ha).mp q)) (fun q => kf (Int.not_lt.mp fun e => q ((iI_lt hb ha).mpr e)))
theorem j_icmp_le (K : zK y cc nL ret hh d kc ks X) {a b : Int} {off : Int} {tgt : Nat} (dd : decode cc pc = .ok (.if_icmp .le off, 3)) (ht : (pc : Int) + off = (tgt : Int)) (ha : -2147483648 ≤ a ∧ a ≤ 2147483647) (hb : -2147483648 ≤ b ∧ b ≤ 2147483647) (kt : a ≤ b → zW X Q h k n tgt env st) (kf : b < a → zW X Q h k n (pc + 3) env st) : zW X Q h k n pc env (.int (iI b) :: .int (iI a) :: st) := z_icmp_le K dd ht (fun q => kt ((iI_le ha hb).mp q)) (fun q => kf (Int.not_le.mp fun e => q ((iI_le ha hb).mpr e)))
theorem j_if_le (K : zK y cc nL ret hh d kc ks X) {a : Int} {off : Int} {tgt : Nat} (dd : decode cc pc = .ok (.ifCond .le off, 3)) (ht : (pc : Int) + off = (tgt : Int)) (ha : -2147483648 ≤ a ∧ a ≤ 2147483647) (kt : a ≤ 0 → zW X Q h k n tgt env st) (kf : 0 < a → zW X Q h k n (pc + 3) env st) : zW X Q h k n pc env (.int (iI a) :: st) := by
  have hb : -2147483648 ≤ (0 : Int) ∧ (0 : Int) ≤ 2147483647 := by omega
  exact z_if_le K dd ht (fun q => kt ((iI_le ha hb).mp q)) (fun q => kf (Int.not_le.mp fun e => q ((iI_le ha hb).mpr e)))
end ZJ
/-! ===== the reference: its rows and numbers, w field place ===== -/
abbrev tW : Type := Nat → Nat → Int
/-- the length of the array in the field f; 0: the field is a number -/
def tlen : Nat → Nat
  | 0 => 203
  | 1 => 203
  | 4 => 80
  | 6 => 5
  | 8 => 4
  | 11 => 20
  | 12 => 20
  | 13 => 4
  | 16 => 20
  | 18 => 5
  | 19 => 20
  | 20 => 5
  | 22 => 20
  | 23 => 5
  | 24 => 400
  | 25 => 20
  | 26 => 20
  | 27 => 20
  | 28 => 20
  | 29 => 20
  | 36 => 203
  | _ => 0
def tty : Nat → Nat
  | 4 => 3
  | 13 => 2
  | 22 => 2
  | 26 => 2
  | _ => 0
def tfv (w : tW) (f : Nat) : Value := cond (Nat.beq (tlen f) 0) (.int (iI (w f 0))) (.ref (1001 + f))
def tF (w : tW) : List Value := [tfv w 0, tfv w 1, tfv w 2, tfv w 3, tfv w 4, tfv w 5, tfv w 6, tfv w 7, tfv w 8, tfv w 9, tfv w 10, tfv w 11, tfv w 12, tfv w 13, tfv w 14, tfv w 15, tfv w 16, tfv w 17, tfv w 18, tfv w 19, tfv w 20, tfv w 21, tfv w 22, tfv w 23, tfv w 24, tfv w 25, tfv w 26, tfv w 27, tfv w 28, tfv w 29, tfv w 30, tfv w 31, tfv w 32, tfv w 33, tfv w 34, tfv w 35, tfv w 36]
def tH (w : tW) : zH := fun m => if m = 1000 then some (.inr (0, tF w)) else if 1001 ≤ m ∧ tlen (m - 1001) ≠ 0 then some (.inl (tty (m - 1001), tlen (m - 1001), .inl (fun i => iI (w (m - 1001) i)))) else none
def tset (w : tW) (f i : Nat) (v : Int) : tW := fun g j => if g = f ∧ j = i then v else w g j
theorem tH_this (w : tW) : tH w 1000 = some (.inr (0, tF w)) := rfl
theorem tH_arr (w : tW) {f : Nat} (hf : tlen f ≠ 0) : tH w (1001 + f) = some (.inl (tty f, tlen f, .inl (fun i => iI (w f i)))) := by
  unfold tH
  rw [if_neg (by omega), if_pos ⟨by omega, by rw [show 1001 + f - 1001 = f by omega]; exact hf⟩, show 1001 + f - 1001 = f by omega]
theorem tlen_lt {f : Nat} (h : tlen f ≠ 0) : f < 37 := by
  rcases Nat.lt_or_ge f 37 with q | q
  · exact q
  · exfalso
    apply h
    unfold tlen
    split <;> first | omega | rfl
theorem tF_at (w : tW) {f : Nat} (hf : f < 37) : (tF w)[f]? = some (tfv w f) := by
  have : ∀ f, f < 37 → (tF w)[f]? = some (tfv w f) := by
    intro f hf
    match f, hf with
    | 0, _ | 1, _ | 2, _ | 3, _ | 4, _ | 5, _ | 6, _ | 7, _ | 8, _ | 9, _ | 10, _ | 11, _ | 12, _ | 13, _ | 14, _ | 15, _ | 16, _ | 17, _ | 18, _ | 19, _ | 20, _ | 21, _ | 22, _ | 23, _ | 24, _ | 25, _ | 26, _ | 27, _ | 28, _ | 29, _ | 30, _ | 31, _ | 32, _ | 33, _ | 34, _ | 35, _ | 36, _ => rfl
    | f + 37, hf => omega
  exact this f hf
theorem tH_set {w : tW} {f : Nat} (hf : tlen f ≠ 0) {i : Nat} {v : Int} : zup (tH w) (1001 + f) (.inl (tty f, tlen f, .inl (upd (fun i => iI (w f i)) i (iI v)))) = tH (tset w f i v) := by
  funext m
  by_cases hm : m = 1001 + f
  · subst hm
    rw [zup_at, tH_arr _ hf]
    congr 5
    funext j
    by_cases hj : j = i
    · subst hj; simp [upd, tset]
    · simp [upd, tset, hj]
  · rw [zup_ne hm]
    unfold tH
    by_cases h0 : m = 1000
    · rw [if_pos h0, if_pos h0]
      have e : tF w = tF (tset w f i v) := by
        have : ∀ g, tfv w g = tfv (tset w f i v) g := by
          intro g
          unfold tfv
          cases hb : Nat.beq (tlen g) 0 with
          | false => rfl
          | true =>
            have hg : g ≠ f := fun q => hf (by rw [← q]; exact Nat.eq_of_beq_eq_true hb)
            simp [tset, hg]
        unfold tF
        simp only [← this]
      rw [e]
    · rw [if_neg h0, if_neg h0]
      by_cases h1 : 1001 ≤ m ∧ tlen (m - 1001) ≠ 0
      · rw [if_pos h1, if_pos h1]
        have : m - 1001 ≠ f := by omega
        have e : (fun i_1 => iI (tset w f i v (m - 1001) i_1)) = (fun i => iI (w (m - 1001) i)) := by
          funext j
          simp [tset, this]
        rw [e]
      · rw [if_neg h1, if_neg h1]
theorem tH_seti {w : tW} {f : Nat} (h37 : f < 37) (hf : tlen f = 0) {v : Int} : zup (tH w) 1000 (.inr (0, (tF w).set f (.int (iI v)))) = tH (tset w f 0 v) := by
  funext m
  by_cases hm : m = 1000
  · subst hm
    rw [zup_at, tH_this]
    congr 3
    have hat : ∀ g, g ≠ f → tfv w g = tfv (tset w f 0 v) g := by
      intro g hg
      unfold tfv
      simp [tset, hg]
    have hf1 : tfv (tset w f 0 v) f = .int (iI v) := by
      unfold tfv
      rw [hf]
      simp [tset]
    apply List.ext_getElem?
    intro g
    by_cases hg : g < 37
    · rw [tF_at _ hg]
      by_cases hgf : g = f
      · subst hgf
        rw [List.getElem?_set_self (by exact hg), hf1]
      · rw [List.getElem?_set_ne (Ne.symm hgf), tF_at _ hg, hat g hgf]
    · rw [List.getElem?_eq_none (by simp [tF]; omega), List.getElem?_eq_none (by simp [tF]; omega)]
  · rw [zup_ne hm]
    unfold tH
    rw [if_neg hm, if_neg hm]
    by_cases h1 : 1001 ≤ m ∧ tlen (m - 1001) ≠ 0
    · rw [if_pos h1, if_pos h1]
      have : m - 1001 ≠ f := fun q => h1.2 (by rw [q]; exact hf)
      have e : (fun i => iI (tset w f 0 v (m - 1001) i)) = (fun i => iI (w (m - 1001) i)) := by
        funext j
        simp [tset, this]
      rw [e]
    · rw [if_neg h1, if_neg h1]
section ZT
variable {y : MethodName} {cc : ByteArray} {nL : Nat} {ret : Option FieldType} {hh : List (Nat × Nat × Nat × Nat)} {d kc ks : Nat} {X : zX} {Q : zO → zH → Prop} {w : tW} {k n pc : Nat} {env : List (Nat × Value)} {st : List Value}
theorem t_geta (K : zK y cc nL ret hh d kc ks X) {idx f : Nat} (fd : zfd y.cls idx 0 f) (hf : Nat.beq (tlen f) 0 = false) (dd : decode cc pc = .ok (.getfield idx, 3)) (kk : zW X Q (tH w) k n (pc + 3) env (.ref (1001 + f) :: st)) : zW X Q (tH w) k n pc env (.ref 1000 :: st) :=
  z_get K fd (tH_this w) (v := .ref (1001 + f)) (by rw [tF_at w (tlen_lt (fun q => by rw [q] at hf; cases hf))]; unfold tfv; rw [hf]; rfl) dd kk
theorem t_geti (K : zK y cc nL ret hh d kc ks X) {idx f : Nat} (fd : zfd y.cls idx 0 f) (h37 : f < 37) (hf : Nat.beq (tlen f) 0 = true) (dd : decode cc pc = .ok (.getfield idx, 3)) (kk : zW X Q (tH w) k n (pc + 3) env (.int (iI (w f 0)) :: st)) : zW X Q (tH w) k n pc env (.ref 1000 :: st) :=
  z_get K fd (tH_this w) (v := .int (iI (w f 0))) (by rw [tF_at w h37]; unfold tfv; rw [hf]; rfl) dd kk
theorem t_puti (K : zK y cc nL ret hh d kc ks X) {idx f : Nat} {v : Int} (fd : zfd y.cls idx 0 f) (hm : zmay y 0 f) (h37 : f < 37) (hf : Nat.beq (tlen f) 0 = true) (ht : tyX4 f = .int) (dd : decode cc pc = .ok (.putfield idx, 3)) (kk : zW X Q (tH (tset w f 0 v)) k n (pc + 3) env st) : zW X Q (tH w) k n pc env (.int (iI v) :: .ref 1000 :: st) :=
  z_put K fd hm (tH_this w) (by decide) (show f < (tF w).length from h37) (fun r u hu => by show narrow (tyX4 f) u = u ∧ fits (tyX4 f) u = true; rw [ht]; exact zfit_i hu) dd (by rw [tH_seti h37 (Nat.eq_of_beq_eq_true hf)]; exact kk)
theorem t_putz (K : zK y cc nL ret hh d kc ks X) {idx f : Nat} {v : Int} (fd : zfd y.cls idx 0 f) (hm : zmay y 0 f) (h37 : f < 37) (hf : Nat.beq (tlen f) 0 = true) (ht : tyX4 f = .boolean) (hv : v = 0 ∨ v = 1) (dd : decode cc pc = .ok (.putfield idx, 3)) (kk : zW X Q (tH (tset w f 0 v)) k n (pc + 3) env st) : zW X Q (tH w) k n pc env (.int (iI v) :: .ref 1000 :: st) :=
  z_put K fd hm (tH_this w) (by decide) (show f < (tF w).length from h37) (fun r u hu => by
    show narrow (tyX4 f) u = u ∧ fits (tyX4 f) u = true
    rw [ht]
    have hu : u = .int (iI v) := hu
    subst hu
    rcases hv with rfl | rfl <;> exact ⟨by decide +kernel, by decide +kernel⟩) dd (by rw [tH_seti h37 (Nat.eq_of_beq_eq_true hf)]; exact kk)
theorem t_ild (K : zK y cc nL ret hh d kc ks X) {a : Int} (f L : Nat) (hL : tlen f = L) (hf : Nat.beq (tlen f) 0 = false) (ht : tty f = 0) (h0 : 0 ≤ a) (h1 : a < (L : Int)) (hl : Nat.ble (tlen f) 1000 = true) (dd : decode cc pc = .ok (.iaload, 1)) (kk : zW X Q (tH w) k n (pc + 1) env (.int (iI (w f a.toNat)) :: st)) : zW X Q (tH w) k n pc env (.int (iI a) :: .ref (1001 + f) :: st) := by
  have hl := Nat.le_of_ble_eq_true hl
  subst hL
  have hN := tH_arr w (f := f) (fun q => by rw [q] at hf; cases hf)
  rw [ht] at hN
  exact z_iald K hN (iI_in h0 h1 (by omega)) dd (by rw [iI_clamp h0 (by omega)]; exact kk)
theorem t_ist (K : zK y cc nL ret hh d kc ks X) {a v : Int} (f L : Nat) (hL : tlen f = L) (hf : Nat.beq (tlen f) 0 = false) (ht : tty f = 0) (h0 : 0 ≤ a) (h1 : a < (L : Int)) (hl : Nat.ble (tlen f) 1000 = true) (dd : decode cc pc = .ok (.iastore, 1)) (kk : zW X Q (tH (tset w f a.toNat v)) k n (pc + 1) env st) : zW X Q (tH w) k n pc env (.int (iI v) :: .int (iI a) :: .ref (1001 + f) :: st) := by
  have hl := Nat.le_of_ble_eq_true hl
  subst hL
  have hf9 : tlen f ≠ 0 := fun q => by rw [q] at hf; cases hf
  have hN := tH_arr w hf9
  rw [ht] at hN
  refine z_iast K hN (by omega) (iI_in h0 h1 (by omega)) dd ?_
  have e := tH_set (w := w) hf9 (i := a.toNat) (v := v)
  rw [ht] at e
  rw [iI_clamp h0 (by omega), e]
  exact kk
theorem t_zld (K : zK y cc nL ret hh d kc ks X) {a : Int} (f L : Nat) (hL : tlen f = L) (hf : Nat.beq (tlen f) 0 = false) (ht : tty f = 2) (h0 : 0 ≤ a) (h1 : a < (L : Int)) (hl : Nat.ble (tlen f) 1000 = true) (dd : decode cc pc = .ok (.baload, 1)) (kk : zW X Q (tH w) k n (pc + 1) env (.int (iI (w f a.toNat)) :: st)) : zW X Q (tH w) k n pc env (.int (iI a) :: .ref (1001 + f) :: st) := by
  have hl := Nat.le_of_ble_eq_true hl
  subst hL
  have hN := tH_arr w (f := f) (fun q => by rw [q] at hf; cases hf)
  rw [ht] at hN
  exact z_zald K hN (iI_in h0 h1 (by omega)) dd (by rw [iI_clamp h0 (by omega)]; exact kk)
theorem t_zst (K : zK y cc nL ret hh d kc ks X) {a v : Int} (f L : Nat) (hL : tlen f = L) (hf : Nat.beq (tlen f) 0 = false) (ht : tty f = 2) (h0 : 0 ≤ a) (h1 : a < (L : Int)) (hl : Nat.ble (tlen f) 1000 = true) (hv : vp_nar .boolean (iI v) = iI v) (dd : decode cc pc = .ok (.bastore, 1)) (kk : zW X Q (tH (tset w f a.toNat v)) k n (pc + 1) env st) : zW X Q (tH w) k n pc env (.int (iI v) :: .int (iI a) :: .ref (1001 + f) :: st) := by
  have hl := Nat.le_of_ble_eq_true hl
  subst hL
  have hf9 : tlen f ≠ 0 := fun q => by rw [q] at hf; cases hf
  have hN := tH_arr w hf9
  rw [ht] at hN
  refine z_zast K hN (by omega) (iI_in h0 h1 (by omega)) dd ?_
  have e := tH_set (w := w) hf9 (i := a.toNat) (v := v)
  rw [ht] at e
  rw [iI_clamp h0 (by omega), hv, e]
  exact kk
theorem t_cld (K : zK y cc nL ret hh d kc ks X) {a : Int} (f L : Nat) (hL : tlen f = L) (hf : Nat.beq (tlen f) 0 = false) (ht : tty f = 3) (h0 : 0 ≤ a) (h1 : a < (L : Int)) (hl : Nat.ble (tlen f) 1000 = true) (dd : decode cc pc = .ok (.caload, 1)) (kk : zW X Q (tH w) k n (pc + 1) env (.int (iI (w f a.toNat)) :: st)) : zW X Q (tH w) k n pc env (.int (iI a) :: .ref (1001 + f) :: st) := by
  have hl := Nat.le_of_ble_eq_true hl
  subst hL
  have hN := tH_arr w (f := f) (fun q => by rw [q] at hf; cases hf)
  rw [ht] at hN
  exact z_cald K hN (iI_in h0 h1 (by omega)) dd (by rw [iI_clamp h0 (by omega)]; exact kk)
theorem t_cst (K : zK y cc nL ret hh d kc ks X) {a v : Int} (f L : Nat) (hL : tlen f = L) (hf : Nat.beq (tlen f) 0 = false) (ht : tty f = 3) (h0 : 0 ≤ a) (h1 : a < (L : Int)) (hl : Nat.ble (tlen f) 1000 = true) (hv : vp_nar .char (iI v) = iI v) (dd : decode cc pc = .ok (.castore, 1)) (kk : zW X Q (tH (tset w f a.toNat v)) k n (pc + 1) env st) : zW X Q (tH w) k n pc env (.int (iI v) :: .int (iI a) :: .ref (1001 + f) :: st) := by
  have hl := Nat.le_of_ble_eq_true hl
  subst hL
  have hf9 : tlen f ≠ 0 := fun q => by rw [q] at hf; cases hf
  have hN := tH_arr w hf9
  rw [ht] at hN
  refine z_cast K hN (by omega) (iI_in h0 h1 (by omega)) dd ?_
  have e := tH_set (w := w) hf9 (i := a.toNat) (v := v)
  rw [ht] at e
  rw [iI_clamp h0 (by omega), hv, e]
  exact kk
end ZT
