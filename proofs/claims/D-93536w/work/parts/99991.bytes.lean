/-! ===== arrays of bytes; chars in bytes ===== -/
section ZBY
variable {y : MethodName} {cc : ByteArray} {nL : Nat} {ret : Option FieldType} {hh : List (Nat × Nat × Nat × Nat)} {d kc ks : Nat} {X : zX} {Q : zO → zH → Prop} {h h1 : zH} {k n pc : Nat} {env : List (Nat × Value)} {st : List Value}
def aB (N : Nat) (f : Nat → Int) : zC := .inl (1, N, .inl fun i => if i < N then iI ((f i).bmod 256) else 0)
theorem bm_r (x : Int) : -128 ≤ x.bmod 256 ∧ x.bmod 256 ≤ 127 := by
  have h1 := Int.le_bmod (x := x) (m := 256) (by decide)
  have h2 := Int.bmod_lt (x := x) (m := 256) (by decide)
  omega
theorem i2b_i (x : Int) : (iI x).toInt8.toInt32 = iI (x.bmod 256) := by
  apply Int32.toInt_inj.mp
  have hr := bm_r x
  rw [Int8.toInt_toInt32, Int32.toInt_toInt8, iI_toInt (a := x.bmod 256) (by omega), show iI x = Int32.ofInt x from rfl, Int32.toInt_ofInt]
  exact Int.bmod_bmod_of_dvd (by decide)
theorem vn_b (x : Int) : vp_nar .byte (iI (x.bmod 256)) = iI (x.bmod 256) := by rw [vp_nar_byte, i2b_i, Int.bmod_bmod]
theorem b255 (x : Int) : iI (x.bmod 256) &&& iI 255 = iI (x % 256) := by
  have ht : ∀ y : Nat, y < 256 → iI ((y : Int).bmod 256) &&& iI 255 = iI (y : Int) := by decide +kernel
  obtain ⟨y, hy⟩ : ∃ y : Nat, x % 256 = y := ⟨(x % 256).toNat, by omega⟩
  have e : x.bmod 256 = (x % 256).bmod 256 := by
    have e9 : x % 256 % ((256 : Nat) : Int) = x % ((256 : Nat) : Int) := by omega
    unfold Int.bmod
    rw [e9]
  rw [e, hy, ht y (by omega)]
theorem fit_b (x : Int) : fits .byte (.int (iI (x.bmod 256))) = true := by
  have hr := bm_r x
  have h1 : (-128 : Int32) ≤ iI (x.bmod 256) := (show (-128 : Int32) = iI (-128) from rfl) ▸ (iI_le (by omega) (by omega)).mpr hr.1
  have h2 : iI (x.bmod 256) ≤ (127 : Int32) := (show (127 : Int32) = iI 127 from rfl) ▸ (iI_le (by omega) (by omega)).mpr hr.2
  simp [fits, h1, h2]
theorem aB_fit {N : Nat} {f : Nat → Int} : ∀ j, j < N → fits .byte (.int ((fun i => if i < N then iI ((f i).bmod 256) else 0) j)) = true := fun j hj => by
  dsimp only
  rw [if_pos hj]
  exact fit_b _
theorem aB_new {N : Nat} : (.inl (1, N, .inl fun _ => 0) : zC) = aB N (fun _ => 0) := by
  unfold aB
  congr 4
  funext i
  split <;> rfl
theorem aB_ext {N : Nat} {f g : Nat → Int} (h : ∀ i, i < N → f i = g i) : aB N f = aB N g := by
  unfold aB
  congr 4
  funext i
  split
  · rw [h i (by assumption)]
  · rfl
theorem aB_upd {N i : Nat} {f : Nat → Int} {v : Int} (hi : i < N) : (.inl (1, N, .inl (upd (fun i => if i < N then iI ((f i).bmod 256) else 0) i (iI (v.bmod 256)))) : zC) = aB N (sup f i v) := by
  unfold aB
  congr 4
  funext j
  by_cases hj : j = i
  · subst hj
    simp [upd, hi, sup_s]
  · simp [upd, hj, sup_n hj]
theorem j_bld (K : zK y cc nL ret hh d kc ks X) {nm N : Nat} {f : Nat → Int} {a : Int} (hn : h nm = some (aB N f)) (h0 : 0 ≤ a) (h1 : a < (N : Int)) (dd : decode cc pc = .ok (.baload, 1)) (kk : zW X Q h k n (pc + 1) env (.int (iI ((f a.toNat).bmod 256)) :: st)) (h2 : a ≤ 2147483647 := by omega) : zW X Q h k n pc env (.int (iI a) :: .ref nm :: st) := by
  refine z_bald K hn (iI_in2 h0 h1 h2) dd ?_
  rw [iI_clamp h0 h2, if_pos (by omega)]
  exact kk
theorem j_bstE (K : zK y cc nL ret hh d kc ks X) {nm N : Nat} {f : Nat → Int} {a v : Int} (hn : h nm = some (aB N f)) (h8 : 1000 ≤ nm) (h0 : 0 ≤ a) (h9 : a < (N : Int)) (dd : decode cc pc = .ok (.bastore, 1)) (he : zup h nm (aB N (sup f a.toNat v)) = h1) (kk : zW X Q h1 k n (pc + 1) env st) (h2 : a ≤ 2147483647 := by omega) : zW X Q h k n pc env (.int (iI (v.bmod 256)) :: .int (iI a) :: .ref nm :: st) := by
  refine z_bast K hn h8 (iI_in2 h0 h9 h2) dd ?_
  rw [iI_clamp h0 h2, vn_b, aB_upd (by omega), he]
  exact kk
theorem sb1 : ∀ i : Nat, i < 1000 → iI (i : Int) <<< (iI 1 &&& 31) = iI (2 * (i : Int)) := by decide +kernel
theorem sb8 : ∀ i : Nat, i < 256 → iI (i : Int) <<< (iI 8 &&& 31) = iI (256 * (i : Int)) := by decide +kernel
theorem sb0 : ∀ i : Nat, i < 1000 → iI (i : Int) <<< (iI 0 &&& 31) = iI (i : Int) := by decide +kernel
theorem sr1 {a : Int} (h0 : 0 ≤ a) (h1 : a < 100000) : iI a >>> (iI 1 &&& 31) = iI (a / 2) := by
  obtain ⟨y, rfl⟩ : ∃ y : Nat, a = y := ⟨a.toNat, by omega⟩
  exact sh_r (k := 1) (by omega) (by decide)
theorem sr8 {a : Int} (h0 : 0 ≤ a) (h1 : a < 100000) : iI a >>> (iI 8 &&& 31) = iI (a / 256) := by
  obtain ⟨y, rfl⟩ : ∃ y : Nat, a = y := ⟨a.toNat, by omega⟩
  exact sh_r (k := 8) (by omega) (by decide)
theorem sr0 {a : Int} (h0 : 0 ≤ a) (h1 : a < 100000) : iI a >>> (iI 0 &&& 31) = iI a := by
  obtain ⟨y, rfl⟩ : ∃ y : Nat, a = y := ⟨a.toNat, by omega⟩
  have := sh_r (M := y) (k := 0) (by omega) (by decide)
  rw [show y / 2 ^ 0 = y from Nat.div_one y] at this
  exact this
theorem or8 {a b : Int} (ha : 0 ≤ a ∧ a < 256) (hb : 0 ≤ b ∧ b < 256) : iI a ||| iI (256 * b) = iI (a + 256 * b) := by
  obtain ⟨x, rfl⟩ : ∃ x : Nat, a = x := ⟨a.toNat, by omega⟩
  obtain ⟨z, rfl⟩ : ∃ z : Nat, b = z := ⟨b.toNat, by omega⟩
  rw [show 256 * (z : Int) = ((256 * z : Nat) : Int) by omega, show (x : Int) + ((256 * z : Nat) : Int) = ((x + 256 * z : Nat) : Int) by omega]
  apply Int32.toBitVec_inj.mp
  rw [Int32.toBitVec_or, iI_bv, iI_bv, iI_bv]
  apply BitVec.eq_of_toNat_eq
  rw [BitVec.toNat_or, BitVec.toNat_ofNat, BitVec.toNat_ofNat, BitVec.toNat_ofNat, Nat.mod_eq_of_lt (by omega), Nat.mod_eq_of_lt (by omega), Nat.mod_eq_of_lt (by omega), Nat.or_comm]
  have := Nat.two_pow_add_eq_or_of_lt (i := 8) (b := x) (by omega) z
  rw [show (2 : Nat) ^ 8 = 256 from rfl] at this
  omega
theorem i2c_i {c : Int} (h0 : 0 ≤ c) (h1 : c < 65536) : ((iI c).toUInt32 % 65536).toInt32 = iI c := by
  obtain ⟨x, rfl⟩ : ∃ x : Nat, c = x := ⟨c.toNat, by omega⟩
  have h2 : (iI (x : Int)).toUInt32 = UInt32.ofNat x := by
    apply UInt32.toBitVec_inj.mp
    rw [show (iI (x : Int)).toUInt32.toBitVec = (iI (x : Int)).toBitVec from rfl, iI_bv]
    rfl
  have h3 : (iI (x : Int)).toUInt32 % 65536 = (iI (x : Int)).toUInt32 := by
    rw [h2]
    apply UInt32.toNat_inj.mp
    rw [UInt32.toNat_mod, UInt32.toNat_ofNat']
    show x % 2 ^ 32 % 65536 = x % 2 ^ 32
    omega
  rw [h3]
  rfl
theorem na_c {c : Int} (h0 : 0 ≤ c) (h1 : c < 65536) : narrow .char (.int (iI c)) = .int (iI c) := by
  obtain ⟨x, rfl⟩ : ∃ x : Nat, c = x := ⟨c.toNat, by omega⟩
  show Value.int (iI (x : Int)).toUInt32.toUInt16.toUInt32.toInt32 = _
  have h2 : (iI (x : Int)).toUInt32 = UInt32.ofNat x := by
    apply UInt32.toBitVec_inj.mp
    rw [show (iI (x : Int)).toUInt32.toBitVec = (iI (x : Int)).toBitVec from rfl, iI_bv]
    rfl
  have h3 : (iI (x : Int)).toUInt32.toUInt16.toUInt32 = (iI (x : Int)).toUInt32 := by
    rw [h2]
    apply UInt32.toNat_inj.mp
    rw [UInt16.toNat_toUInt32, UInt32.toNat_toUInt16, UInt32.toNat_ofNat']
    omega
  rw [h3]
  rfl
theorem na_b {c : Int} (h : c = 0 ∨ c = 1) : narrow .byte (.int (iI c)) = .int (iI c) := by rcases h with rfl | rfl <;> decide +kernel
end ZBY
